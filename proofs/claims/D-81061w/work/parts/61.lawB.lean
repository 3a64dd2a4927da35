set_option maxRecDepth 100000
set_option maxHeartbeats 4000000
theorem lc_0 {w : Wd} {l : Launch} {G : Cx} {Q : State → Prop} {d m : Dt} {kc ks : Nat} {n i : Int} {f : Int → Int} {I : Dt → Dt → Prop} (F : Fx w G code R_law 4 ret room_1) (hT : va_T .int (w.2.1 (-1)) n.toNat (fun j => .int (Int32.ofInt (f j))) (fun q => w.1.size ≤ q) G.2.2.2.1 w.1) (hf : ∀ j, in32 (f j)) (hi : 0 ≤ i ∧ i + 6 ≤ n ∧ n ≤ 384) (hp : PB m 1 0) (hq : PB m 1545 11) (r1 : kc + 7 ≤ room_1.cells) (r2 : ks + 82 ≤ room_1.slots)
    (hs : ∃ d1 m1 r, opX 0 d m (f (i + 1)) (f (i + 2)) (f (i + 3)) (f (i + 4)) (f (i + 5)) = some (d1, m1, r) ∧ PB m1 1 0 ∧ PB m1 1545 11 ∧ (VT w d1 m1 → WF d1 m1 → ∃ d2, opM 0 d1 (f (i + 1)) (f (i + 2)) (f (i + 3)) (f (i + 4)) (f (i + 5)) = some (d2, r) ∧ (VT w d2 m1 → WF d2 m1 → I d2 m1)))
    (kk : ∀ d2 m1, PB m1 1 0 → PB m1 1545 11 → I d2 m1 → V w l WF G Q d2 m1 (kc + 7) (ks + 82) 2206 [mA (-1), mA 1, mA 1545, mI i] []) : V w l WF G Q d m kc ks 280 [mA (-1), mA 1, mA 1545, mI i] [] := by
  obtain ⟨d1, m1, r, h1, hp1, hq1, h2⟩ := hs
  refine v_fact fun hv hX _ _ => ?_
  have hc : fX0_feed d (f (i + 1)) (f (i + 2)) (f (i + 3)) (f (i + 4)) (f (i + 5)) = some (d1, r) ∧ m = m1 := opx_w h1
  obtain ⟨hc, rfl⟩ := hc
  refine v_aload_n F dL_law_280 rfl rfl ?_
  refine v_aload_n F dL_law_281 rfl rfl ?_
  refine v_iload_n F dL_law_282 rfl rfl ?_
  refine v_iconst F dL_law_283 ⟨by decide, by decide⟩ ?_
  refine v_iadd F dL_law_284 ?_
  refine v_nI (x := i + 1) (w32_id (by unfold in32; omega)).symm ?_
  refine v_xald (n := n) (f := f) F dL_law_285 (by decide) hT (by omega) (hf _) ?_
  refine v_aload_n F dL_law_286 rfl rfl ?_
  refine v_iload_n F dL_law_287 rfl rfl ?_
  refine v_iconst F dL_law_288 ⟨by decide, by decide⟩ ?_
  refine v_iadd F dL_law_289 ?_
  refine v_nI (x := i + 2) (w32_id (by unfold in32; omega)).symm ?_
  refine v_xald (n := n) (f := f) F dL_law_290 (by decide) hT (by omega) (hf _) ?_
  refine v_aload_n F dL_law_291 rfl rfl ?_
  refine v_iload_n F dL_law_292 rfl rfl ?_
  refine v_iconst F dL_law_293 ⟨by decide, by decide⟩ ?_
  refine v_iadd F dL_law_294 ?_
  refine v_nI (x := i + 3) (w32_id (by unfold in32; omega)).symm ?_
  refine v_xald (n := n) (f := f) F dL_law_295 (by decide) hT (by omega) (hf _) ?_
  refine v_aload_n F dL_law_296 rfl rfl ?_
  refine v_iload_n F dL_law_297 rfl rfl ?_
  refine v_iconst F dL_law_298 ⟨by decide, by decide⟩ ?_
  refine v_iadd F dL_law_299 ?_
  refine v_nI (x := i + 4) (w32_id (by unfold in32; omega)).symm ?_
  refine v_xald (n := n) (f := f) F dL_law_300 (by decide) hT (by omega) (hf _) ?_
  refine v_aload_n F dL_law_301 rfl rfl ?_
  refine v_iload_n F dL_law_302 rfl rfl ?_
  refine v_iconst F dL_law_303 ⟨by decide, by decide⟩ ?_
  refine v_iadd F dL_law_304 ?_
  refine v_nI (x := i + 5) (w32_id (by unfold in32; omega)).symm ?_
  refine v_xald (n := n) (f := f) F dL_law_305 (by decide) hT (by omega) (hf _) ?_
  refine v_callVv (c := 0) F dL_law_306 cv_L_13 rfl (PB.ob hp hX (Nat.le_of_ble_eq_true rfl)) (Nat.le_of_ble_eq_true rfl) rfl (vm_X0_feed hp hc) rfl ⟨(Nat.le_of_ble_eq_true rfl), (Nat.le_of_ble_eq_true rfl), Nat.le_trans (show _ ≤ kc + 7 by omega) r1, Nat.le_trans (show _ ≤ ks + 82 by omega) r2, (Nat.le_of_ble_eq_true rfl)⟩ ?_
  refine v_fact fun hv1 hX1 _ _ => ?_
  obtain ⟨d2, h3, h4⟩ := h2 hv1 hX1
  have hc2 : fX11_feed d1 (f (i + 1)) (f (i + 2)) (f (i + 3)) (f (i + 4)) (f (i + 5)) = some (d2, r) := h3
  refine v_aload_n F dL_law_309 rfl rfl ?_
  refine v_aload_n F dL_law_310 rfl rfl ?_
  refine v_iload_n F dL_law_311 rfl rfl ?_
  refine v_iconst F dL_law_312 ⟨by decide, by decide⟩ ?_
  refine v_iadd F dL_law_313 ?_
  refine v_nI (x := i + 1) (w32_id (by unfold in32; omega)).symm ?_
  refine v_xald (n := n) (f := f) F dL_law_314 (by decide) hT (by omega) (hf _) ?_
  refine v_aload_n F dL_law_315 rfl rfl ?_
  refine v_iload_n F dL_law_316 rfl rfl ?_
  refine v_iconst F dL_law_317 ⟨by decide, by decide⟩ ?_
  refine v_iadd F dL_law_318 ?_
  refine v_nI (x := i + 2) (w32_id (by unfold in32; omega)).symm ?_
  refine v_xald (n := n) (f := f) F dL_law_319 (by decide) hT (by omega) (hf _) ?_
  refine v_aload_n F dL_law_320 rfl rfl ?_
  refine v_iload_n F dL_law_321 rfl rfl ?_
  refine v_iconst F dL_law_322 ⟨by decide, by decide⟩ ?_
  refine v_iadd F dL_law_323 ?_
  refine v_nI (x := i + 3) (w32_id (by unfold in32; omega)).symm ?_
  refine v_xald (n := n) (f := f) F dL_law_324 (by decide) hT (by omega) (hf _) ?_
  refine v_aload_n F dL_law_325 rfl rfl ?_
  refine v_iload_n F dL_law_326 rfl rfl ?_
  refine v_iconst F dL_law_327 ⟨by decide, by decide⟩ ?_
  refine v_iadd F dL_law_328 ?_
  refine v_nI (x := i + 4) (w32_id (by unfold in32; omega)).symm ?_
  refine v_xald (n := n) (f := f) F dL_law_329 (by decide) hT (by omega) (hf _) ?_
  refine v_aload_n F dL_law_330 rfl rfl ?_
  refine v_iload_n F dL_law_331 rfl rfl ?_
  refine v_iconst F dL_law_332 ⟨by decide, by decide⟩ ?_
  refine v_iadd F dL_law_333 ?_
  refine v_nI (x := i + 5) (w32_id (by unfold in32; omega)).symm ?_
  refine v_xald (n := n) (f := f) F dL_law_334 (by decide) hT (by omega) (hf _) ?_
  refine v_callVv (c := 11) F dL_law_335 cv_L_17 rfl (PB.ob hq1 hX1 (Nat.le_of_ble_eq_true rfl)) (Nat.le_of_ble_eq_true rfl) rfl (vm_X11_feed hq1 hc2) rfl ⟨(Nat.le_of_ble_eq_true rfl), (Nat.le_of_ble_eq_true rfl), Nat.le_trans (show _ ≤ kc + 7 by omega) r1, Nat.le_trans (show _ ≤ ks + 82 by omega) r2, (Nat.le_of_ble_eq_true rfl)⟩ ?_
  refine v_icmp_eq F dL_law_338 rfl (fun _ => ?_) (fun h => absurd rfl h)
  refine v_fact fun hv2 hX2 _ _ => ?_
  exact v_widen (show _ ≤ kc + 7 by omega) (show _ ≤ ks + 82 by omega) (kk _ _ hp1 hq1 (h4 hv2 hX2))
theorem lc_1 {w : Wd} {l : Launch} {G : Cx} {Q : State → Prop} {d m : Dt} {kc ks : Nat} {n i : Int} {f : Int → Int} {I : Dt → Dt → Prop} (F : Fx w G code R_law 4 ret room_1) (hT : va_T .int (w.2.1 (-1)) n.toNat (fun j => .int (Int32.ofInt (f j))) (fun q => w.1.size ≤ q) G.2.2.2.1 w.1) (hf : ∀ j, in32 (f j)) (hi : 0 ≤ i ∧ i + 6 ≤ n ∧ n ≤ 384) (hp : PB m 1 0) (hq : PB m 1545 11) (r1 : kc + 7 ≤ room_1.cells) (r2 : ks + 82 ≤ room_1.slots)
    (hs : ∃ d1 m1 r, opX 1 d m (f (i + 1)) (f (i + 2)) (f (i + 3)) (f (i + 4)) (f (i + 5)) = some (d1, m1, r) ∧ PB m1 1 0 ∧ PB m1 1545 11 ∧ (VT w d1 m1 → WF d1 m1 → ∃ d2, opM 1 d1 (f (i + 1)) (f (i + 2)) (f (i + 3)) (f (i + 4)) (f (i + 5)) = some (d2, r) ∧ (VT w d2 m1 → WF d2 m1 → I d2 m1)))
    (kk : ∀ d2 m1, PB m1 1 0 → PB m1 1545 11 → I d2 m1 → V w l WF G Q d2 m1 (kc + 7) (ks + 82) 2206 [mA (-1), mA 1, mA 1545, mI i] []) : V w l WF G Q d m kc ks 343 [mA (-1), mA 1, mA 1545, mI i] [] := by
  obtain ⟨d1, m1, r, h1, hp1, hq1, h2⟩ := hs
  refine v_fact fun hv hX _ _ => ?_
  have hc : fX0_cut d (f (i + 1)) = some (d1, r) ∧ m = m1 := opx_w h1
  obtain ⟨hc, rfl⟩ := hc
  refine v_aload_n F dL_law_343 rfl rfl ?_
  refine v_aload_n F dL_law_344 rfl rfl ?_
  refine v_iload_n F dL_law_345 rfl rfl ?_
  refine v_iconst F dL_law_346 ⟨by decide, by decide⟩ ?_
  refine v_iadd F dL_law_347 ?_
  refine v_nI (x := i + 1) (w32_id (by unfold in32; omega)).symm ?_
  refine v_xald (n := n) (f := f) F dL_law_348 (by decide) hT (by omega) (hf _) ?_
  refine v_callVv (c := 0) F dL_law_349 cv_L_18 rfl (PB.ob hp hX (Nat.le_of_ble_eq_true rfl)) (Nat.le_of_ble_eq_true rfl) rfl (vm_X0_cut hp hc) rfl ⟨(Nat.le_of_ble_eq_true rfl), (Nat.le_of_ble_eq_true rfl), Nat.le_trans (show _ ≤ kc + 7 by omega) r1, Nat.le_trans (show _ ≤ ks + 82 by omega) r2, (Nat.le_of_ble_eq_true rfl)⟩ ?_
  refine v_fact fun hv1 hX1 _ _ => ?_
  obtain ⟨d2, h3, h4⟩ := h2 hv1 hX1
  have hc2 : fX11_cut d1 (f (i + 1)) = some (d2, r) := h3
  refine v_aload_n F dL_law_352 rfl rfl ?_
  refine v_aload_n F dL_law_353 rfl rfl ?_
  refine v_iload_n F dL_law_354 rfl rfl ?_
  refine v_iconst F dL_law_355 ⟨by decide, by decide⟩ ?_
  refine v_iadd F dL_law_356 ?_
  refine v_nI (x := i + 1) (w32_id (by unfold in32; omega)).symm ?_
  refine v_xald (n := n) (f := f) F dL_law_357 (by decide) hT (by omega) (hf _) ?_
  refine v_callVv (c := 11) F dL_law_358 cv_L_22 rfl (PB.ob hq1 hX1 (Nat.le_of_ble_eq_true rfl)) (Nat.le_of_ble_eq_true rfl) rfl (vm_X11_cut hq1 hc2) rfl ⟨(Nat.le_of_ble_eq_true rfl), (Nat.le_of_ble_eq_true rfl), Nat.le_trans (show _ ≤ kc + 7 by omega) r1, Nat.le_trans (show _ ≤ ks + 82 by omega) r2, (Nat.le_of_ble_eq_true rfl)⟩ ?_
  refine v_icmp_eq F dL_law_361 rfl (fun _ => ?_) (fun h => absurd rfl h)
  refine v_fact fun hv2 hX2 _ _ => ?_
  exact v_widen (show _ ≤ kc + 7 by omega) (show _ ≤ ks + 82 by omega) (kk _ _ hp1 hq1 (h4 hv2 hX2))
theorem lc_2 {w : Wd} {l : Launch} {G : Cx} {Q : State → Prop} {d m : Dt} {kc ks : Nat} {n i : Int} {f : Int → Int} {I : Dt → Dt → Prop} (F : Fx w G code R_law 4 ret room_1) (hT : va_T .int (w.2.1 (-1)) n.toNat (fun j => .int (Int32.ofInt (f j))) (fun q => w.1.size ≤ q) G.2.2.2.1 w.1) (hf : ∀ j, in32 (f j)) (hi : 0 ≤ i ∧ i + 6 ≤ n ∧ n ≤ 384) (hp : PB m 1 0) (hq : PB m 1545 11) (r1 : kc + 7 ≤ room_1.cells) (r2 : ks + 82 ≤ room_1.slots)
    (hs : ∃ d1 m1 r, opX 2 d m (f (i + 1)) (f (i + 2)) (f (i + 3)) (f (i + 4)) (f (i + 5)) = some (d1, m1, r) ∧ PB m1 1 0 ∧ PB m1 1545 11 ∧ (VT w d1 m1 → WF d1 m1 → ∃ d2, opM 2 d1 (f (i + 1)) (f (i + 2)) (f (i + 3)) (f (i + 4)) (f (i + 5)) = some (d2, r) ∧ (VT w d2 m1 → WF d2 m1 → I d2 m1)))
    (kk : ∀ d2 m1, PB m1 1 0 → PB m1 1545 11 → I d2 m1 → V w l WF G Q d2 m1 (kc + 7) (ks + 82) 2206 [mA (-1), mA 1, mA 1545, mI i] []) : V w l WF G Q d m kc ks 366 [mA (-1), mA 1, mA 1545, mI i] [] := by
  obtain ⟨d1, m1, r, h1, hp1, hq1, h2⟩ := hs
  refine v_fact fun hv hX _ _ => ?_
  have hc : fX0_day d (f (i + 1)) = some (d1, r) ∧ m = m1 := opx_w h1
  obtain ⟨hc, rfl⟩ := hc
  refine v_aload_n F dL_law_366 rfl rfl ?_
  refine v_aload_n F dL_law_367 rfl rfl ?_
  refine v_iload_n F dL_law_368 rfl rfl ?_
  refine v_iconst F dL_law_369 ⟨by decide, by decide⟩ ?_
  refine v_iadd F dL_law_370 ?_
  refine v_nI (x := i + 1) (w32_id (by unfold in32; omega)).symm ?_
  refine v_xald (n := n) (f := f) F dL_law_371 (by decide) hT (by omega) (hf _) ?_
  refine v_callVv (c := 0) F dL_law_372 cv_L_23 rfl (PB.ob hp hX (Nat.le_of_ble_eq_true rfl)) (Nat.le_of_ble_eq_true rfl) rfl (vm_X0_day hp hc) rfl ⟨(Nat.le_of_ble_eq_true rfl), (Nat.le_of_ble_eq_true rfl), Nat.le_trans (show _ ≤ kc + 7 by omega) r1, Nat.le_trans (show _ ≤ ks + 82 by omega) r2, (Nat.le_of_ble_eq_true rfl)⟩ ?_
  refine v_fact fun hv1 hX1 _ _ => ?_
  obtain ⟨d2, h3, h4⟩ := h2 hv1 hX1
  have hc2 : fX11_day d1 (f (i + 1)) = some (d2, r) := h3
  refine v_aload_n F dL_law_375 rfl rfl ?_
  refine v_aload_n F dL_law_376 rfl rfl ?_
  refine v_iload_n F dL_law_377 rfl rfl ?_
  refine v_iconst F dL_law_378 ⟨by decide, by decide⟩ ?_
  refine v_iadd F dL_law_379 ?_
  refine v_nI (x := i + 1) (w32_id (by unfold in32; omega)).symm ?_
  refine v_xald (n := n) (f := f) F dL_law_380 (by decide) hT (by omega) (hf _) ?_
  refine v_callVv (c := 11) F dL_law_381 cv_L_26 rfl (PB.ob hq1 hX1 (Nat.le_of_ble_eq_true rfl)) (Nat.le_of_ble_eq_true rfl) rfl (vm_X11_day hq1 hc2) rfl ⟨(Nat.le_of_ble_eq_true rfl), (Nat.le_of_ble_eq_true rfl), Nat.le_trans (show _ ≤ kc + 7 by omega) r1, Nat.le_trans (show _ ≤ ks + 82 by omega) r2, (Nat.le_of_ble_eq_true rfl)⟩ ?_
  refine v_icmp_eq F dL_law_384 rfl (fun _ => ?_) (fun h => absurd rfl h)
  refine v_fact fun hv2 hX2 _ _ => ?_
  exact v_widen (show _ ≤ kc + 7 by omega) (show _ ≤ ks + 82 by omega) (kk _ _ hp1 hq1 (h4 hv2 hX2))
theorem lc_3 {w : Wd} {l : Launch} {G : Cx} {Q : State → Prop} {d m : Dt} {kc ks : Nat} {n i : Int} {f : Int → Int} {I : Dt → Dt → Prop} (F : Fx w G code R_law 4 ret room_1) (hT : va_T .int (w.2.1 (-1)) n.toNat (fun j => .int (Int32.ofInt (f j))) (fun q => w.1.size ≤ q) G.2.2.2.1 w.1) (hf : ∀ j, in32 (f j)) (hi : 0 ≤ i ∧ i + 6 ≤ n ∧ n ≤ 384) (hp : PB m 1 0) (hq : PB m 1545 11) (r1 : kc + 7 ≤ room_1.cells) (r2 : ks + 82 ≤ room_1.slots)
    (hs : ∃ d1 m1 r, opX 3 d m (f (i + 1)) (f (i + 2)) (f (i + 3)) (f (i + 4)) (f (i + 5)) = some (d1, m1, r) ∧ PB m1 1 0 ∧ PB m1 1545 11 ∧ (VT w d1 m1 → WF d1 m1 → ∃ d2, opM 3 d1 (f (i + 1)) (f (i + 2)) (f (i + 3)) (f (i + 4)) (f (i + 5)) = some (d2, r) ∧ (VT w d2 m1 → WF d2 m1 → I d2 m1)))
    (kk : ∀ d2 m1, PB m1 1 0 → PB m1 1545 11 → I d2 m1 → V w l WF G Q d2 m1 (kc + 7) (ks + 82) 2206 [mA (-1), mA 1, mA 1545, mI i] []) : V w l WF G Q d m kc ks 389 [mA (-1), mA 1, mA 1545, mI i] [] := by
  obtain ⟨d1, m1, r, h1, hp1, hq1, h2⟩ := hs
  refine v_fact fun hv hX _ _ => ?_
  have hc : fX0_area d (f (i + 1)) = some (d1, r) ∧ m = m1 := opx_w h1
  obtain ⟨hc, rfl⟩ := hc
  refine v_aload_n F dL_law_389 rfl rfl ?_
  refine v_aload_n F dL_law_390 rfl rfl ?_
  refine v_iload_n F dL_law_391 rfl rfl ?_
  refine v_iconst F dL_law_392 ⟨by decide, by decide⟩ ?_
  refine v_iadd F dL_law_393 ?_
  refine v_nI (x := i + 1) (w32_id (by unfold in32; omega)).symm ?_
  refine v_xald (n := n) (f := f) F dL_law_394 (by decide) hT (by omega) (hf _) ?_
  refine v_callVv (c := 0) F dL_law_395 cv_L_27 rfl (PB.ob hp hX (Nat.le_of_ble_eq_true rfl)) (Nat.le_of_ble_eq_true rfl) rfl (vm_X0_area hp hc) rfl ⟨(Nat.le_of_ble_eq_true rfl), (Nat.le_of_ble_eq_true rfl), Nat.le_trans (show _ ≤ kc + 7 by omega) r1, Nat.le_trans (show _ ≤ ks + 82 by omega) r2, (Nat.le_of_ble_eq_true rfl)⟩ ?_
  refine v_fact fun hv1 hX1 _ _ => ?_
  obtain ⟨d2, h3, h4⟩ := h2 hv1 hX1
  have hc2 : fX11_area d1 (f (i + 1)) = some (d2, r) := h3
  refine v_aload_n F dL_law_398 rfl rfl ?_
  refine v_aload_n F dL_law_399 rfl rfl ?_
  refine v_iload_n F dL_law_400 rfl rfl ?_
  refine v_iconst F dL_law_401 ⟨by decide, by decide⟩ ?_
  refine v_iadd F dL_law_402 ?_
  refine v_nI (x := i + 1) (w32_id (by unfold in32; omega)).symm ?_
  refine v_xald (n := n) (f := f) F dL_law_403 (by decide) hT (by omega) (hf _) ?_
  refine v_callVv (c := 11) F dL_law_404 cv_L_30 rfl (PB.ob hq1 hX1 (Nat.le_of_ble_eq_true rfl)) (Nat.le_of_ble_eq_true rfl) rfl (vm_X11_area hq1 hc2) rfl ⟨(Nat.le_of_ble_eq_true rfl), (Nat.le_of_ble_eq_true rfl), Nat.le_trans (show _ ≤ kc + 7 by omega) r1, Nat.le_trans (show _ ≤ ks + 82 by omega) r2, (Nat.le_of_ble_eq_true rfl)⟩ ?_
  refine v_icmp_eq F dL_law_407 rfl (fun _ => ?_) (fun h => absurd rfl h)
  refine v_fact fun hv2 hX2 _ _ => ?_
  exact v_widen (show _ ≤ kc + 7 by omega) (show _ ≤ ks + 82 by omega) (kk _ _ hp1 hq1 (h4 hv2 hX2))
theorem lc_4 {w : Wd} {l : Launch} {G : Cx} {Q : State → Prop} {d m : Dt} {kc ks : Nat} {n i : Int} {f : Int → Int} {I : Dt → Dt → Prop} (F : Fx w G code R_law 4 ret room_1) (hT : va_T .int (w.2.1 (-1)) n.toNat (fun j => .int (Int32.ofInt (f j))) (fun q => w.1.size ≤ q) G.2.2.2.1 w.1) (hf : ∀ j, in32 (f j)) (hi : 0 ≤ i ∧ i + 6 ≤ n ∧ n ≤ 384) (hp : PB m 1 0) (hq : PB m 1545 11) (r1 : kc + 7 ≤ room_1.cells) (r2 : ks + 82 ≤ room_1.slots)
    (hs : ∃ d1 m1 r, opX 4 d m (f (i + 1)) (f (i + 2)) (f (i + 3)) (f (i + 4)) (f (i + 5)) = some (d1, m1, r) ∧ PB m1 1 0 ∧ PB m1 1545 11 ∧ (VT w d1 m1 → WF d1 m1 → ∃ d2, opM 4 d1 (f (i + 1)) (f (i + 2)) (f (i + 3)) (f (i + 4)) (f (i + 5)) = some (d2, r) ∧ (VT w d2 m1 → WF d2 m1 → I d2 m1)))
    (kk : ∀ d2 m1, PB m1 1 0 → PB m1 1545 11 → I d2 m1 → V w l WF G Q d2 m1 (kc + 7) (ks + 82) 2206 [mA (-1), mA 1, mA 1545, mI i] []) : V w l WF G Q d m kc ks 412 [mA (-1), mA 1, mA 1545, mI i] [] := by
  obtain ⟨d1, m1, r, h1, hp1, hq1, h2⟩ := hs
  refine v_fact fun hv hX _ _ => ?_
  have hc : fX0_border d (f (i + 1)) (f (i + 2)) (f (i + 3)) (f (i + 4)) = some (d1, r) ∧ m = m1 := opx_w h1
  obtain ⟨hc, rfl⟩ := hc
  refine v_aload_n F dL_law_412 rfl rfl ?_
  refine v_aload_n F dL_law_413 rfl rfl ?_
  refine v_iload_n F dL_law_414 rfl rfl ?_
  refine v_iconst F dL_law_415 ⟨by decide, by decide⟩ ?_
  refine v_iadd F dL_law_416 ?_
  refine v_nI (x := i + 1) (w32_id (by unfold in32; omega)).symm ?_
  refine v_xald (n := n) (f := f) F dL_law_417 (by decide) hT (by omega) (hf _) ?_
  refine v_aload_n F dL_law_418 rfl rfl ?_
  refine v_iload_n F dL_law_419 rfl rfl ?_
  refine v_iconst F dL_law_420 ⟨by decide, by decide⟩ ?_
  refine v_iadd F dL_law_421 ?_
  refine v_nI (x := i + 2) (w32_id (by unfold in32; omega)).symm ?_
  refine v_xald (n := n) (f := f) F dL_law_422 (by decide) hT (by omega) (hf _) ?_
  refine v_aload_n F dL_law_423 rfl rfl ?_
  refine v_iload_n F dL_law_424 rfl rfl ?_
  refine v_iconst F dL_law_425 ⟨by decide, by decide⟩ ?_
  refine v_iadd F dL_law_426 ?_
  refine v_nI (x := i + 3) (w32_id (by unfold in32; omega)).symm ?_
  refine v_xald (n := n) (f := f) F dL_law_427 (by decide) hT (by omega) (hf _) ?_
  refine v_aload_n F dL_law_428 rfl rfl ?_
  refine v_iload_n F dL_law_429 rfl rfl ?_
  refine v_iconst F dL_law_430 ⟨by decide, by decide⟩ ?_
  refine v_iadd F dL_law_431 ?_
  refine v_nI (x := i + 4) (w32_id (by unfold in32; omega)).symm ?_
  refine v_xald (n := n) (f := f) F dL_law_432 (by decide) hT (by omega) (hf _) ?_
  refine v_callVv (c := 0) F dL_law_433 cv_L_31 rfl (PB.ob hp hX (Nat.le_of_ble_eq_true rfl)) (Nat.le_of_ble_eq_true rfl) rfl (vm_X0_border hp hc) rfl ⟨(Nat.le_of_ble_eq_true rfl), (Nat.le_of_ble_eq_true rfl), Nat.le_trans (show _ ≤ kc + 7 by omega) r1, Nat.le_trans (show _ ≤ ks + 82 by omega) r2, (Nat.le_of_ble_eq_true rfl)⟩ ?_
  refine v_fact fun hv1 hX1 _ _ => ?_
  obtain ⟨d2, h3, h4⟩ := h2 hv1 hX1
  have hc2 : fX11_border d1 (f (i + 1)) (f (i + 2)) (f (i + 3)) (f (i + 4)) = some (d2, r) := h3
  refine v_aload_n F dL_law_436 rfl rfl ?_
  refine v_aload_n F dL_law_437 rfl rfl ?_
  refine v_iload_n F dL_law_438 rfl rfl ?_
  refine v_iconst F dL_law_439 ⟨by decide, by decide⟩ ?_
  refine v_iadd F dL_law_440 ?_
  refine v_nI (x := i + 1) (w32_id (by unfold in32; omega)).symm ?_
  refine v_xald (n := n) (f := f) F dL_law_441 (by decide) hT (by omega) (hf _) ?_
  refine v_aload_n F dL_law_442 rfl rfl ?_
  refine v_iload_n F dL_law_443 rfl rfl ?_
  refine v_iconst F dL_law_444 ⟨by decide, by decide⟩ ?_
  refine v_iadd F dL_law_445 ?_
  refine v_nI (x := i + 2) (w32_id (by unfold in32; omega)).symm ?_
  refine v_xald (n := n) (f := f) F dL_law_446 (by decide) hT (by omega) (hf _) ?_
  refine v_aload_n F dL_law_447 rfl rfl ?_
  refine v_iload_n F dL_law_448 rfl rfl ?_
  refine v_iconst F dL_law_449 ⟨by decide, by decide⟩ ?_
  refine v_iadd F dL_law_450 ?_
  refine v_nI (x := i + 3) (w32_id (by unfold in32; omega)).symm ?_
  refine v_xald (n := n) (f := f) F dL_law_451 (by decide) hT (by omega) (hf _) ?_
  refine v_aload_n F dL_law_452 rfl rfl ?_
  refine v_iload_n F dL_law_453 rfl rfl ?_
  refine v_iconst F dL_law_454 ⟨by decide, by decide⟩ ?_
  refine v_iadd F dL_law_455 ?_
  refine v_nI (x := i + 4) (w32_id (by unfold in32; omega)).symm ?_
  refine v_xald (n := n) (f := f) F dL_law_456 (by decide) hT (by omega) (hf _) ?_
  refine v_callVv (c := 11) F dL_law_457 cv_L_35 rfl (PB.ob hq1 hX1 (Nat.le_of_ble_eq_true rfl)) (Nat.le_of_ble_eq_true rfl) rfl (vm_X11_border hq1 hc2) rfl ⟨(Nat.le_of_ble_eq_true rfl), (Nat.le_of_ble_eq_true rfl), Nat.le_trans (show _ ≤ kc + 7 by omega) r1, Nat.le_trans (show _ ≤ ks + 82 by omega) r2, (Nat.le_of_ble_eq_true rfl)⟩ ?_
  refine v_icmp_eq F dL_law_460 rfl (fun _ => ?_) (fun h => absurd rfl h)
  refine v_fact fun hv2 hX2 _ _ => ?_
  exact v_widen (show _ ≤ kc + 7 by omega) (show _ ≤ ks + 82 by omega) (kk _ _ hp1 hq1 (h4 hv2 hX2))
theorem lc_5 {w : Wd} {l : Launch} {G : Cx} {Q : State → Prop} {d m : Dt} {kc ks : Nat} {n i : Int} {f : Int → Int} {I : Dt → Dt → Prop} (F : Fx w G code R_law 4 ret room_1) (hT : va_T .int (w.2.1 (-1)) n.toNat (fun j => .int (Int32.ofInt (f j))) (fun q => w.1.size ≤ q) G.2.2.2.1 w.1) (hf : ∀ j, in32 (f j)) (hi : 0 ≤ i ∧ i + 6 ≤ n ∧ n ≤ 384) (hp : PB m 1 0) (hq : PB m 1545 11) (r1 : kc + 7 ≤ room_1.cells) (r2 : ks + 82 ≤ room_1.slots)
    (hs : ∃ d1 m1 r, opX 5 d m (f (i + 1)) (f (i + 2)) (f (i + 3)) (f (i + 4)) (f (i + 5)) = some (d1, m1, r) ∧ PB m1 1 0 ∧ PB m1 1545 11 ∧ (VT w d1 m1 → WF d1 m1 → ∃ d2, opM 5 d1 (f (i + 1)) (f (i + 2)) (f (i + 3)) (f (i + 4)) (f (i + 5)) = some (d2, r) ∧ (VT w d2 m1 → WF d2 m1 → I d2 m1)))
    (kk : ∀ d2 m1, PB m1 1 0 → PB m1 1545 11 → I d2 m1 → V w l WF G Q d2 m1 (kc + 7) (ks + 82) 2206 [mA (-1), mA 1, mA 1545, mI i] []) : V w l WF G Q d m kc ks 465 [mA (-1), mA 1, mA 1545, mI i] [] := by
  obtain ⟨d1, m1, r, h1, hp1, hq1, h2⟩ := hs
  refine v_fact fun hv hX _ _ => ?_
  have hc : fX0_areaOf d (f (i + 1)) (f (i + 2)) (f (i + 3)) = some r ∧ d = d1 ∧ m = m1 := opx_r h1
  obtain ⟨hc, rfl, rfl⟩ := hc
  refine v_aload_n F dL_law_465 rfl rfl ?_
  refine v_aload_n F dL_law_466 rfl rfl ?_
  refine v_iload_n F dL_law_467 rfl rfl ?_
  refine v_iconst F dL_law_468 ⟨by decide, by decide⟩ ?_
  refine v_iadd F dL_law_469 ?_
  refine v_nI (x := i + 1) (w32_id (by unfold in32; omega)).symm ?_
  refine v_xald (n := n) (f := f) F dL_law_470 (by decide) hT (by omega) (hf _) ?_
  refine v_aload_n F dL_law_471 rfl rfl ?_
  refine v_iload_n F dL_law_472 rfl rfl ?_
  refine v_iconst F dL_law_473 ⟨by decide, by decide⟩ ?_
  refine v_iadd F dL_law_474 ?_
  refine v_nI (x := i + 2) (w32_id (by unfold in32; omega)).symm ?_
  refine v_xald (n := n) (f := f) F dL_law_475 (by decide) hT (by omega) (hf _) ?_
  refine v_aload_n F dL_law_476 rfl rfl ?_
  refine v_iload_n F dL_law_477 rfl rfl ?_
  refine v_iconst F dL_law_478 ⟨by decide, by decide⟩ ?_
  refine v_iadd F dL_law_479 ?_
  refine v_nI (x := i + 3) (w32_id (by unfold in32; omega)).symm ?_
  refine v_xald (n := n) (f := f) F dL_law_480 (by decide) hT (by omega) (hf _) ?_
  refine v_callVv (c := 0) F dL_law_481 cv_L_36 rfl (PB.ob hp hX (Nat.le_of_ble_eq_true rfl)) (Nat.le_of_ble_eq_true rfl) rfl (vm_X0_areaOf hp hc) rfl ⟨(Nat.le_of_ble_eq_true rfl), (Nat.le_of_ble_eq_true rfl), Nat.le_trans (show _ ≤ kc + 7 by omega) r1, Nat.le_trans (show _ ≤ ks + 82 by omega) r2, (Nat.le_of_ble_eq_true rfl)⟩ ?_
  refine v_fact fun hv1 hX1 _ _ => ?_
  obtain ⟨d2, h3, h4⟩ := h2 hv1 hX1
  have hc2 : fX11_areaOf d (f (i + 1)) (f (i + 2)) (f (i + 3)) = some r ∧ d = d2 := opm_r h3
  obtain ⟨hc2, rfl⟩ := hc2
  refine v_aload_n F dL_law_484 rfl rfl ?_
  refine v_aload_n F dL_law_485 rfl rfl ?_
  refine v_iload_n F dL_law_486 rfl rfl ?_
  refine v_iconst F dL_law_487 ⟨by decide, by decide⟩ ?_
  refine v_iadd F dL_law_488 ?_
  refine v_nI (x := i + 1) (w32_id (by unfold in32; omega)).symm ?_
  refine v_xald (n := n) (f := f) F dL_law_489 (by decide) hT (by omega) (hf _) ?_
  refine v_aload_n F dL_law_490 rfl rfl ?_
  refine v_iload_n F dL_law_491 rfl rfl ?_
  refine v_iconst F dL_law_492 ⟨by decide, by decide⟩ ?_
  refine v_iadd F dL_law_493 ?_
  refine v_nI (x := i + 2) (w32_id (by unfold in32; omega)).symm ?_
  refine v_xald (n := n) (f := f) F dL_law_494 (by decide) hT (by omega) (hf _) ?_
  refine v_aload_n F dL_law_495 rfl rfl ?_
  refine v_iload_n F dL_law_496 rfl rfl ?_
  refine v_iconst F dL_law_497 ⟨by decide, by decide⟩ ?_
  refine v_iadd F dL_law_498 ?_
  refine v_nI (x := i + 3) (w32_id (by unfold in32; omega)).symm ?_
  refine v_xald (n := n) (f := f) F dL_law_499 (by decide) hT (by omega) (hf _) ?_
  refine v_callVv (c := 11) F dL_law_500 cv_L_40 rfl (PB.ob hq1 hX1 (Nat.le_of_ble_eq_true rfl)) (Nat.le_of_ble_eq_true rfl) rfl (vm_X11_areaOf hq1 hc2) rfl ⟨(Nat.le_of_ble_eq_true rfl), (Nat.le_of_ble_eq_true rfl), Nat.le_trans (show _ ≤ kc + 7 by omega) r1, Nat.le_trans (show _ ≤ ks + 82 by omega) r2, (Nat.le_of_ble_eq_true rfl)⟩ ?_
  refine v_icmp_eq F dL_law_503 rfl (fun _ => ?_) (fun h => absurd rfl h)
  refine v_fact fun hv2 hX2 _ _ => ?_
  exact v_widen (show _ ≤ kc + 7 by omega) (show _ ≤ ks + 82 by omega) (kk _ _ hp1 hq1 (h4 hv2 hX2))
theorem lc_6 {w : Wd} {l : Launch} {G : Cx} {Q : State → Prop} {d m : Dt} {kc ks : Nat} {n i : Int} {f : Int → Int} {I : Dt → Dt → Prop} (F : Fx w G code R_law 4 ret room_1) (hT : va_T .int (w.2.1 (-1)) n.toNat (fun j => .int (Int32.ofInt (f j))) (fun q => w.1.size ≤ q) G.2.2.2.1 w.1) (hf : ∀ j, in32 (f j)) (hi : 0 ≤ i ∧ i + 6 ≤ n ∧ n ≤ 384) (hp : PB m 1 0) (hq : PB m 1545 11) (r1 : kc + 7 ≤ room_1.cells) (r2 : ks + 82 ≤ room_1.slots)
    (hs : ∃ d1 m1 r, opX 6 d m (f (i + 1)) (f (i + 2)) (f (i + 3)) (f (i + 4)) (f (i + 5)) = some (d1, m1, r) ∧ PB m1 1 0 ∧ PB m1 1545 11 ∧ (VT w d1 m1 → WF d1 m1 → ∃ d2, opM 6 d1 (f (i + 1)) (f (i + 2)) (f (i + 3)) (f (i + 4)) (f (i + 5)) = some (d2, r) ∧ (VT w d2 m1 → WF d2 m1 → I d2 m1)))
    (kk : ∀ d2 m1, PB m1 1 0 → PB m1 1545 11 → I d2 m1 → V w l WF G Q d2 m1 (kc + 7) (ks + 82) 2206 [mA (-1), mA 1, mA 1545, mI i] []) : V w l WF G Q d m kc ks 508 [mA (-1), mA 1, mA 1545, mI i] [] := by
  obtain ⟨d1, m1, r, h1, hp1, hq1, h2⟩ := hs
  refine v_fact fun hv hX _ _ => ?_
  have hc : fX0_person d m (f (i + 1)) (f (i + 2)) (f (i + 3)) = some (d1, m1, r) := h1
  refine v_aload_n F dL_law_508 rfl rfl ?_
  refine v_aload_n F dL_law_509 rfl rfl ?_
  refine v_iload_n F dL_law_510 rfl rfl ?_
  refine v_iconst F dL_law_511 ⟨by decide, by decide⟩ ?_
  refine v_iadd F dL_law_512 ?_
  refine v_nI (x := i + 1) (w32_id (by unfold in32; omega)).symm ?_
  refine v_xald (n := n) (f := f) F dL_law_513 (by decide) hT (by omega) (hf _) ?_
  refine v_aload_n F dL_law_514 rfl rfl ?_
  refine v_iload_n F dL_law_515 rfl rfl ?_
  refine v_iconst F dL_law_516 ⟨by decide, by decide⟩ ?_
  refine v_iadd F dL_law_517 ?_
  refine v_nI (x := i + 2) (w32_id (by unfold in32; omega)).symm ?_
  refine v_xald (n := n) (f := f) F dL_law_518 (by decide) hT (by omega) (hf _) ?_
  refine v_aload_n F dL_law_519 rfl rfl ?_
  refine v_iload_n F dL_law_520 rfl rfl ?_
  refine v_iconst F dL_law_521 ⟨by decide, by decide⟩ ?_
  refine v_iadd F dL_law_522 ?_
  refine v_nI (x := i + 3) (w32_id (by unfold in32; omega)).symm ?_
  refine v_xald (n := n) (f := f) F dL_law_523 (by decide) hT (by omega) (hf _) ?_
  refine v_callV (c := 0) F dL_law_524 cv_L_41 rfl (PB.ob hp hX (Nat.le_of_ble_eq_true rfl)) (Nat.le_of_ble_eq_true rfl) rfl (vm_X0_person hp hc) rfl ⟨(Nat.le_of_ble_eq_true rfl), (Nat.le_of_ble_eq_true rfl), Nat.le_trans (show _ ≤ kc + 7 by omega) r1, Nat.le_trans (show _ ≤ ks + 82 by omega) r2, (Nat.le_of_ble_eq_true rfl)⟩ ?_
  refine v_fact fun hv1 hX1 _ _ => ?_
  obtain ⟨d2, h3, h4⟩ := h2 hv1 hX1
  have hc2 : fX11_person d1 (f (i + 1)) (f (i + 2)) (f (i + 3)) = some (d2, r) := h3
  refine v_aload_n F dL_law_527 rfl rfl ?_
  refine v_aload_n F dL_law_528 rfl rfl ?_
  refine v_iload_n F dL_law_529 rfl rfl ?_
  refine v_iconst F dL_law_530 ⟨by decide, by decide⟩ ?_
  refine v_iadd F dL_law_531 ?_
  refine v_nI (x := i + 1) (w32_id (by unfold in32; omega)).symm ?_
  refine v_xald (n := n) (f := f) F dL_law_532 (by decide) hT (by omega) (hf _) ?_
  refine v_aload_n F dL_law_533 rfl rfl ?_
  refine v_iload_n F dL_law_534 rfl rfl ?_
  refine v_iconst F dL_law_535 ⟨by decide, by decide⟩ ?_
  refine v_iadd F dL_law_536 ?_
  refine v_nI (x := i + 2) (w32_id (by unfold in32; omega)).symm ?_
  refine v_xald (n := n) (f := f) F dL_law_537 (by decide) hT (by omega) (hf _) ?_
  refine v_aload_n F dL_law_538 rfl rfl ?_
  refine v_iload_n F dL_law_539 rfl rfl ?_
  refine v_iconst F dL_law_540 ⟨by decide, by decide⟩ ?_
  refine v_iadd F dL_law_541 ?_
  refine v_nI (x := i + 3) (w32_id (by unfold in32; omega)).symm ?_
  refine v_xald (n := n) (f := f) F dL_law_542 (by decide) hT (by omega) (hf _) ?_
  refine v_callVv (c := 11) F dL_law_543 cv_L_44 rfl (PB.ob hq1 hX1 (Nat.le_of_ble_eq_true rfl)) (Nat.le_of_ble_eq_true rfl) rfl (vm_X11_person hq1 hc2) rfl ⟨(Nat.le_of_ble_eq_true rfl), (Nat.le_of_ble_eq_true rfl), Nat.le_trans (show _ ≤ kc + 7 by omega) r1, Nat.le_trans (show _ ≤ ks + 82 by omega) r2, (Nat.le_of_ble_eq_true rfl)⟩ ?_
  refine v_icmp_eq F dL_law_546 rfl (fun _ => ?_) (fun h => absurd rfl h)
  refine v_fact fun hv2 hX2 _ _ => ?_
  exact v_widen (show _ ≤ kc + 7 by omega) (show _ ≤ ks + 82 by omega) (kk _ _ hp1 hq1 (h4 hv2 hX2))
theorem lc_7 {w : Wd} {l : Launch} {G : Cx} {Q : State → Prop} {d m : Dt} {kc ks : Nat} {n i : Int} {f : Int → Int} {I : Dt → Dt → Prop} (F : Fx w G code R_law 4 ret room_1) (hT : va_T .int (w.2.1 (-1)) n.toNat (fun j => .int (Int32.ofInt (f j))) (fun q => w.1.size ≤ q) G.2.2.2.1 w.1) (hf : ∀ j, in32 (f j)) (hi : 0 ≤ i ∧ i + 6 ≤ n ∧ n ≤ 384) (hp : PB m 1 0) (hq : PB m 1545 11) (r1 : kc + 7 ≤ room_1.cells) (r2 : ks + 82 ≤ room_1.slots)
    (hs : ∃ d1 m1 r, opX 7 d m (f (i + 1)) (f (i + 2)) (f (i + 3)) (f (i + 4)) (f (i + 5)) = some (d1, m1, r) ∧ PB m1 1 0 ∧ PB m1 1545 11 ∧ (VT w d1 m1 → WF d1 m1 → ∃ d2, opM 7 d1 (f (i + 1)) (f (i + 2)) (f (i + 3)) (f (i + 4)) (f (i + 5)) = some (d2, r) ∧ (VT w d2 m1 → WF d2 m1 → I d2 m1)))
    (kk : ∀ d2 m1, PB m1 1 0 → PB m1 1545 11 → I d2 m1 → V w l WF G Q d2 m1 (kc + 7) (ks + 82) 2206 [mA (-1), mA 1, mA 1545, mI i] []) : V w l WF G Q d m kc ks 551 [mA (-1), mA 1, mA 1545, mI i] [] := by
  obtain ⟨d1, m1, r, h1, hp1, hq1, h2⟩ := hs
  refine v_fact fun hv hX _ _ => ?_
  have hc : fX0_move d (f (i + 1)) (f (i + 2)) (f (i + 3)) = some (d1, r) ∧ m = m1 := opx_w h1
  obtain ⟨hc, rfl⟩ := hc
  refine v_aload_n F dL_law_551 rfl rfl ?_
  refine v_aload_n F dL_law_552 rfl rfl ?_
  refine v_iload_n F dL_law_553 rfl rfl ?_
  refine v_iconst F dL_law_554 ⟨by decide, by decide⟩ ?_
  refine v_iadd F dL_law_555 ?_
  refine v_nI (x := i + 1) (w32_id (by unfold in32; omega)).symm ?_
  refine v_xald (n := n) (f := f) F dL_law_556 (by decide) hT (by omega) (hf _) ?_
  refine v_aload_n F dL_law_557 rfl rfl ?_
  refine v_iload_n F dL_law_558 rfl rfl ?_
  refine v_iconst F dL_law_559 ⟨by decide, by decide⟩ ?_
  refine v_iadd F dL_law_560 ?_
  refine v_nI (x := i + 2) (w32_id (by unfold in32; omega)).symm ?_
  refine v_xald (n := n) (f := f) F dL_law_561 (by decide) hT (by omega) (hf _) ?_
  refine v_aload_n F dL_law_562 rfl rfl ?_
  refine v_iload_n F dL_law_563 rfl rfl ?_
  refine v_iconst F dL_law_564 ⟨by decide, by decide⟩ ?_
  refine v_iadd F dL_law_565 ?_
  refine v_nI (x := i + 3) (w32_id (by unfold in32; omega)).symm ?_
  refine v_xald (n := n) (f := f) F dL_law_566 (by decide) hT (by omega) (hf _) ?_
  refine v_callVv (c := 0) F dL_law_567 cv_L_45 rfl (PB.ob hp hX (Nat.le_of_ble_eq_true rfl)) (Nat.le_of_ble_eq_true rfl) rfl (vm_X0_move hp hc) rfl ⟨(Nat.le_of_ble_eq_true rfl), (Nat.le_of_ble_eq_true rfl), Nat.le_trans (show _ ≤ kc + 7 by omega) r1, Nat.le_trans (show _ ≤ ks + 82 by omega) r2, (Nat.le_of_ble_eq_true rfl)⟩ ?_
  refine v_fact fun hv1 hX1 _ _ => ?_
  obtain ⟨d2, h3, h4⟩ := h2 hv1 hX1
  have hc2 : fX11_move d1 (f (i + 1)) (f (i + 2)) (f (i + 3)) = some (d2, r) := h3
  refine v_aload_n F dL_law_570 rfl rfl ?_
  refine v_aload_n F dL_law_571 rfl rfl ?_
  refine v_iload_n F dL_law_572 rfl rfl ?_
  refine v_iconst F dL_law_573 ⟨by decide, by decide⟩ ?_
  refine v_iadd F dL_law_574 ?_
  refine v_nI (x := i + 1) (w32_id (by unfold in32; omega)).symm ?_
  refine v_xald (n := n) (f := f) F dL_law_575 (by decide) hT (by omega) (hf _) ?_
  refine v_aload_n F dL_law_576 rfl rfl ?_
  refine v_iload_n F dL_law_577 rfl rfl ?_
  refine v_iconst F dL_law_578 ⟨by decide, by decide⟩ ?_
  refine v_iadd F dL_law_579 ?_
  refine v_nI (x := i + 2) (w32_id (by unfold in32; omega)).symm ?_
  refine v_xald (n := n) (f := f) F dL_law_580 (by decide) hT (by omega) (hf _) ?_
  refine v_aload_n F dL_law_581 rfl rfl ?_
  refine v_iload_n F dL_law_582 rfl rfl ?_
  refine v_iconst F dL_law_583 ⟨by decide, by decide⟩ ?_
  refine v_iadd F dL_law_584 ?_
  refine v_nI (x := i + 3) (w32_id (by unfold in32; omega)).symm ?_
  refine v_xald (n := n) (f := f) F dL_law_585 (by decide) hT (by omega) (hf _) ?_
  refine v_callVv (c := 11) F dL_law_586 cv_L_48 rfl (PB.ob hq1 hX1 (Nat.le_of_ble_eq_true rfl)) (Nat.le_of_ble_eq_true rfl) rfl (vm_X11_move hq1 hc2) rfl ⟨(Nat.le_of_ble_eq_true rfl), (Nat.le_of_ble_eq_true rfl), Nat.le_trans (show _ ≤ kc + 7 by omega) r1, Nat.le_trans (show _ ≤ ks + 82 by omega) r2, (Nat.le_of_ble_eq_true rfl)⟩ ?_
  refine v_icmp_eq F dL_law_589 rfl (fun _ => ?_) (fun h => absurd rfl h)
  refine v_fact fun hv2 hX2 _ _ => ?_
  exact v_widen (show _ ≤ kc + 7 by omega) (show _ ≤ ks + 82 by omega) (kk _ _ hp1 hq1 (h4 hv2 hX2))
theorem lc_8 {w : Wd} {l : Launch} {G : Cx} {Q : State → Prop} {d m : Dt} {kc ks : Nat} {n i : Int} {f : Int → Int} {I : Dt → Dt → Prop} (F : Fx w G code R_law 4 ret room_1) (hT : va_T .int (w.2.1 (-1)) n.toNat (fun j => .int (Int32.ofInt (f j))) (fun q => w.1.size ≤ q) G.2.2.2.1 w.1) (hf : ∀ j, in32 (f j)) (hi : 0 ≤ i ∧ i + 6 ≤ n ∧ n ≤ 384) (hp : PB m 1 0) (hq : PB m 1545 11) (r1 : kc + 7 ≤ room_1.cells) (r2 : ks + 82 ≤ room_1.slots)
    (hs : ∃ d1 m1 r, opX 8 d m (f (i + 1)) (f (i + 2)) (f (i + 3)) (f (i + 4)) (f (i + 5)) = some (d1, m1, r) ∧ PB m1 1 0 ∧ PB m1 1545 11 ∧ (VT w d1 m1 → WF d1 m1 → ∃ d2, opM 8 d1 (f (i + 1)) (f (i + 2)) (f (i + 3)) (f (i + 4)) (f (i + 5)) = some (d2, r) ∧ (VT w d2 m1 → WF d2 m1 → I d2 m1)))
    (kk : ∀ d2 m1, PB m1 1 0 → PB m1 1545 11 → I d2 m1 → V w l WF G Q d2 m1 (kc + 7) (ks + 82) 2206 [mA (-1), mA 1, mA 1545, mI i] []) : V w l WF G Q d m kc ks 594 [mA (-1), mA 1, mA 1545, mI i] [] := by
  obtain ⟨d1, m1, r, h1, hp1, hq1, h2⟩ := hs
  refine v_fact fun hv hX _ _ => ?_
  have hc : fX0_fact d (f (i + 1)) (f (i + 2)) (f (i + 3)) (f (i + 4)) (f (i + 5)) = some (d1, r) ∧ m = m1 := opx_w h1
  obtain ⟨hc, rfl⟩ := hc
  refine v_aload_n F dL_law_594 rfl rfl ?_
  refine v_aload_n F dL_law_595 rfl rfl ?_
  refine v_iload_n F dL_law_596 rfl rfl ?_
  refine v_iconst F dL_law_597 ⟨by decide, by decide⟩ ?_
  refine v_iadd F dL_law_598 ?_
  refine v_nI (x := i + 1) (w32_id (by unfold in32; omega)).symm ?_
  refine v_xald (n := n) (f := f) F dL_law_599 (by decide) hT (by omega) (hf _) ?_
  refine v_aload_n F dL_law_600 rfl rfl ?_
  refine v_iload_n F dL_law_601 rfl rfl ?_
  refine v_iconst F dL_law_602 ⟨by decide, by decide⟩ ?_
  refine v_iadd F dL_law_603 ?_
  refine v_nI (x := i + 2) (w32_id (by unfold in32; omega)).symm ?_
  refine v_xald (n := n) (f := f) F dL_law_604 (by decide) hT (by omega) (hf _) ?_
  refine v_aload_n F dL_law_605 rfl rfl ?_
  refine v_iload_n F dL_law_606 rfl rfl ?_
  refine v_iconst F dL_law_607 ⟨by decide, by decide⟩ ?_
  refine v_iadd F dL_law_608 ?_
  refine v_nI (x := i + 3) (w32_id (by unfold in32; omega)).symm ?_
  refine v_xald (n := n) (f := f) F dL_law_609 (by decide) hT (by omega) (hf _) ?_
  refine v_aload_n F dL_law_610 rfl rfl ?_
  refine v_iload_n F dL_law_611 rfl rfl ?_
  refine v_iconst F dL_law_612 ⟨by decide, by decide⟩ ?_
  refine v_iadd F dL_law_613 ?_
  refine v_nI (x := i + 4) (w32_id (by unfold in32; omega)).symm ?_
  refine v_xald (n := n) (f := f) F dL_law_614 (by decide) hT (by omega) (hf _) ?_
  refine v_aload_n F dL_law_615 rfl rfl ?_
  refine v_iload_n F dL_law_616 rfl rfl ?_
  refine v_iconst F dL_law_617 ⟨by decide, by decide⟩ ?_
  refine v_iadd F dL_law_618 ?_
  refine v_nI (x := i + 5) (w32_id (by unfold in32; omega)).symm ?_
  refine v_xald (n := n) (f := f) F dL_law_619 (by decide) hT (by omega) (hf _) ?_
  refine v_callVv (c := 0) F dL_law_620 cv_L_49 rfl (PB.ob hp hX (Nat.le_of_ble_eq_true rfl)) (Nat.le_of_ble_eq_true rfl) rfl (vm_X0_fact hp hc) rfl ⟨(Nat.le_of_ble_eq_true rfl), (Nat.le_of_ble_eq_true rfl), Nat.le_trans (show _ ≤ kc + 7 by omega) r1, Nat.le_trans (show _ ≤ ks + 82 by omega) r2, (Nat.le_of_ble_eq_true rfl)⟩ ?_
  refine v_fact fun hv1 hX1 _ _ => ?_
  obtain ⟨d2, h3, h4⟩ := h2 hv1 hX1
  have hc2 : fX11_fact d1 (f (i + 1)) (f (i + 2)) (f (i + 3)) (f (i + 4)) (f (i + 5)) = some (d2, r) := h3
  refine v_aload_n F dL_law_623 rfl rfl ?_
  refine v_aload_n F dL_law_624 rfl rfl ?_
  refine v_iload_n F dL_law_625 rfl rfl ?_
  refine v_iconst F dL_law_626 ⟨by decide, by decide⟩ ?_
  refine v_iadd F dL_law_627 ?_
  refine v_nI (x := i + 1) (w32_id (by unfold in32; omega)).symm ?_
  refine v_xald (n := n) (f := f) F dL_law_628 (by decide) hT (by omega) (hf _) ?_
  refine v_aload_n F dL_law_629 rfl rfl ?_
  refine v_iload_n F dL_law_630 rfl rfl ?_
  refine v_iconst F dL_law_631 ⟨by decide, by decide⟩ ?_
  refine v_iadd F dL_law_632 ?_
  refine v_nI (x := i + 2) (w32_id (by unfold in32; omega)).symm ?_
  refine v_xald (n := n) (f := f) F dL_law_633 (by decide) hT (by omega) (hf _) ?_
  refine v_aload_n F dL_law_634 rfl rfl ?_
  refine v_iload_n F dL_law_635 rfl rfl ?_
  refine v_iconst F dL_law_636 ⟨by decide, by decide⟩ ?_
  refine v_iadd F dL_law_637 ?_
  refine v_nI (x := i + 3) (w32_id (by unfold in32; omega)).symm ?_
  refine v_xald (n := n) (f := f) F dL_law_638 (by decide) hT (by omega) (hf _) ?_
  refine v_aload_n F dL_law_639 rfl rfl ?_
  refine v_iload_n F dL_law_640 rfl rfl ?_
  refine v_iconst F dL_law_641 ⟨by decide, by decide⟩ ?_
  refine v_iadd F dL_law_642 ?_
  refine v_nI (x := i + 4) (w32_id (by unfold in32; omega)).symm ?_
  refine v_xald (n := n) (f := f) F dL_law_643 (by decide) hT (by omega) (hf _) ?_
  refine v_aload_n F dL_law_644 rfl rfl ?_
  refine v_iload_n F dL_law_645 rfl rfl ?_
  refine v_iconst F dL_law_646 ⟨by decide, by decide⟩ ?_
  refine v_iadd F dL_law_647 ?_
  refine v_nI (x := i + 5) (w32_id (by unfold in32; omega)).symm ?_
  refine v_xald (n := n) (f := f) F dL_law_648 (by decide) hT (by omega) (hf _) ?_
  refine v_callVv (c := 11) F dL_law_649 cv_L_52 rfl (PB.ob hq1 hX1 (Nat.le_of_ble_eq_true rfl)) (Nat.le_of_ble_eq_true rfl) rfl (vm_X11_fact hq1 hc2) rfl ⟨(Nat.le_of_ble_eq_true rfl), (Nat.le_of_ble_eq_true rfl), Nat.le_trans (show _ ≤ kc + 7 by omega) r1, Nat.le_trans (show _ ≤ ks + 82 by omega) r2, (Nat.le_of_ble_eq_true rfl)⟩ ?_
  refine v_icmp_eq F dL_law_652 rfl (fun _ => ?_) (fun h => absurd rfl h)
  refine v_fact fun hv2 hX2 _ _ => ?_
  exact v_widen (show _ ≤ kc + 7 by omega) (show _ ≤ ks + 82 by omega) (kk _ _ hp1 hq1 (h4 hv2 hX2))
theorem lc_9 {w : Wd} {l : Launch} {G : Cx} {Q : State → Prop} {d m : Dt} {kc ks : Nat} {n i : Int} {f : Int → Int} {I : Dt → Dt → Prop} (F : Fx w G code R_law 4 ret room_1) (hT : va_T .int (w.2.1 (-1)) n.toNat (fun j => .int (Int32.ofInt (f j))) (fun q => w.1.size ≤ q) G.2.2.2.1 w.1) (hf : ∀ j, in32 (f j)) (hi : 0 ≤ i ∧ i + 6 ≤ n ∧ n ≤ 384) (hp : PB m 1 0) (hq : PB m 1545 11) (r1 : kc + 7 ≤ room_1.cells) (r2 : ks + 82 ≤ room_1.slots)
    (hs : ∃ d1 m1 r, opX 9 d m (f (i + 1)) (f (i + 2)) (f (i + 3)) (f (i + 4)) (f (i + 5)) = some (d1, m1, r) ∧ PB m1 1 0 ∧ PB m1 1545 11 ∧ (VT w d1 m1 → WF d1 m1 → ∃ d2, opM 9 d1 (f (i + 1)) (f (i + 2)) (f (i + 3)) (f (i + 4)) (f (i + 5)) = some (d2, r) ∧ (VT w d2 m1 → WF d2 m1 → I d2 m1)))
    (kk : ∀ d2 m1, PB m1 1 0 → PB m1 1545 11 → I d2 m1 → V w l WF G Q d2 m1 (kc + 7) (ks + 82) 2206 [mA (-1), mA 1, mA 1545, mI i] []) : V w l WF G Q d m kc ks 657 [mA (-1), mA 1, mA 1545, mI i] [] := by
  obtain ⟨d1, m1, r, h1, hp1, hq1, h2⟩ := hs
  refine v_fact fun hv hX _ _ => ?_
  have hc : fX0_die d (f (i + 1)) (f (i + 2)) = some (d1, r) ∧ m = m1 := opx_w h1
  obtain ⟨hc, rfl⟩ := hc
  refine v_aload_n F dL_law_657 rfl rfl ?_
  refine v_aload_n F dL_law_658 rfl rfl ?_
  refine v_iload_n F dL_law_659 rfl rfl ?_
  refine v_iconst F dL_law_660 ⟨by decide, by decide⟩ ?_
  refine v_iadd F dL_law_661 ?_
  refine v_nI (x := i + 1) (w32_id (by unfold in32; omega)).symm ?_
  refine v_xald (n := n) (f := f) F dL_law_662 (by decide) hT (by omega) (hf _) ?_
  refine v_aload_n F dL_law_663 rfl rfl ?_
  refine v_iload_n F dL_law_664 rfl rfl ?_
  refine v_iconst F dL_law_665 ⟨by decide, by decide⟩ ?_
  refine v_iadd F dL_law_666 ?_
  refine v_nI (x := i + 2) (w32_id (by unfold in32; omega)).symm ?_
  refine v_xald (n := n) (f := f) F dL_law_667 (by decide) hT (by omega) (hf _) ?_
  refine v_callVv (c := 0) F dL_law_668 cv_L_53 rfl (PB.ob hp hX (Nat.le_of_ble_eq_true rfl)) (Nat.le_of_ble_eq_true rfl) rfl (vm_X0_die hp hc) rfl ⟨(Nat.le_of_ble_eq_true rfl), (Nat.le_of_ble_eq_true rfl), Nat.le_trans (show _ ≤ kc + 7 by omega) r1, Nat.le_trans (show _ ≤ ks + 82 by omega) r2, (Nat.le_of_ble_eq_true rfl)⟩ ?_
  refine v_fact fun hv1 hX1 _ _ => ?_
  obtain ⟨d2, h3, h4⟩ := h2 hv1 hX1
  have hc2 : fX11_die d1 (f (i + 1)) (f (i + 2)) = some (d2, r) := h3
  refine v_aload_n F dL_law_671 rfl rfl ?_
  refine v_aload_n F dL_law_672 rfl rfl ?_
  refine v_iload_n F dL_law_673 rfl rfl ?_
  refine v_iconst F dL_law_674 ⟨by decide, by decide⟩ ?_
  refine v_iadd F dL_law_675 ?_
  refine v_nI (x := i + 1) (w32_id (by unfold in32; omega)).symm ?_
  refine v_xald (n := n) (f := f) F dL_law_676 (by decide) hT (by omega) (hf _) ?_
  refine v_aload_n F dL_law_677 rfl rfl ?_
  refine v_iload_n F dL_law_678 rfl rfl ?_
  refine v_iconst F dL_law_679 ⟨by decide, by decide⟩ ?_
  refine v_iadd F dL_law_680 ?_
  refine v_nI (x := i + 2) (w32_id (by unfold in32; omega)).symm ?_
  refine v_xald (n := n) (f := f) F dL_law_681 (by decide) hT (by omega) (hf _) ?_
  refine v_callVv (c := 11) F dL_law_682 cv_L_57 rfl (PB.ob hq1 hX1 (Nat.le_of_ble_eq_true rfl)) (Nat.le_of_ble_eq_true rfl) rfl (vm_X11_die hq1 hc2) rfl ⟨(Nat.le_of_ble_eq_true rfl), (Nat.le_of_ble_eq_true rfl), Nat.le_trans (show _ ≤ kc + 7 by omega) r1, Nat.le_trans (show _ ≤ ks + 82 by omega) r2, (Nat.le_of_ble_eq_true rfl)⟩ ?_
  refine v_icmp_eq F dL_law_685 rfl (fun _ => ?_) (fun h => absurd rfl h)
  refine v_fact fun hv2 hX2 _ _ => ?_
  exact v_widen (show _ ≤ kc + 7 by omega) (show _ ≤ ks + 82 by omega) (kk _ _ hp1 hq1 (h4 hv2 hX2))
theorem lc_10 {w : Wd} {l : Launch} {G : Cx} {Q : State → Prop} {d m : Dt} {kc ks : Nat} {n i : Int} {f : Int → Int} {I : Dt → Dt → Prop} (F : Fx w G code R_law 4 ret room_1) (hT : va_T .int (w.2.1 (-1)) n.toNat (fun j => .int (Int32.ofInt (f j))) (fun q => w.1.size ≤ q) G.2.2.2.1 w.1) (hf : ∀ j, in32 (f j)) (hi : 0 ≤ i ∧ i + 6 ≤ n ∧ n ≤ 384) (hp : PB m 1 0) (hq : PB m 1545 11) (r1 : kc + 7 ≤ room_1.cells) (r2 : ks + 82 ≤ room_1.slots)
    (hs : ∃ d1 m1 r, opX 10 d m (f (i + 1)) (f (i + 2)) (f (i + 3)) (f (i + 4)) (f (i + 5)) = some (d1, m1, r) ∧ PB m1 1 0 ∧ PB m1 1545 11 ∧ (VT w d1 m1 → WF d1 m1 → ∃ d2, opM 10 d1 (f (i + 1)) (f (i + 2)) (f (i + 3)) (f (i + 4)) (f (i + 5)) = some (d2, r) ∧ (VT w d2 m1 → WF d2 m1 → I d2 m1)))
    (kk : ∀ d2 m1, PB m1 1 0 → PB m1 1545 11 → I d2 m1 → V w l WF G Q d2 m1 (kc + 7) (ks + 82) 2206 [mA (-1), mA 1, mA 1545, mI i] []) : V w l WF G Q d m kc ks 690 [mA (-1), mA 1, mA 1545, mI i] [] := by
  obtain ⟨d1, m1, r, h1, hp1, hq1, h2⟩ := hs
  refine v_fact fun hv hX _ _ => ?_
  have hc : fX0_age d (f (i + 1)) (f (i + 2)) = some r ∧ d = d1 ∧ m = m1 := opx_r h1
  obtain ⟨hc, rfl, rfl⟩ := hc
  refine v_aload_n F dL_law_690 rfl rfl ?_
  refine v_aload_n F dL_law_691 rfl rfl ?_
  refine v_iload_n F dL_law_692 rfl rfl ?_
  refine v_iconst F dL_law_693 ⟨by decide, by decide⟩ ?_
  refine v_iadd F dL_law_694 ?_
  refine v_nI (x := i + 1) (w32_id (by unfold in32; omega)).symm ?_
  refine v_xald (n := n) (f := f) F dL_law_695 (by decide) hT (by omega) (hf _) ?_
  refine v_aload_n F dL_law_696 rfl rfl ?_
  refine v_iload_n F dL_law_697 rfl rfl ?_
  refine v_iconst F dL_law_698 ⟨by decide, by decide⟩ ?_
  refine v_iadd F dL_law_699 ?_
  refine v_nI (x := i + 2) (w32_id (by unfold in32; omega)).symm ?_
  refine v_xald (n := n) (f := f) F dL_law_700 (by decide) hT (by omega) (hf _) ?_
  refine v_callVv (c := 0) F dL_law_701 cv_L_58 rfl (PB.ob hp hX (Nat.le_of_ble_eq_true rfl)) (Nat.le_of_ble_eq_true rfl) rfl (vm_X0_age hp hc) rfl ⟨(Nat.le_of_ble_eq_true rfl), (Nat.le_of_ble_eq_true rfl), Nat.le_trans (show _ ≤ kc + 7 by omega) r1, Nat.le_trans (show _ ≤ ks + 82 by omega) r2, (Nat.le_of_ble_eq_true rfl)⟩ ?_
  refine v_fact fun hv1 hX1 _ _ => ?_
  obtain ⟨d2, h3, h4⟩ := h2 hv1 hX1
  have hc2 : fX11_age d (f (i + 1)) (f (i + 2)) = some r ∧ d = d2 := opm_r h3
  obtain ⟨hc2, rfl⟩ := hc2
  refine v_aload_n F dL_law_704 rfl rfl ?_
  refine v_aload_n F dL_law_705 rfl rfl ?_
  refine v_iload_n F dL_law_706 rfl rfl ?_
  refine v_iconst F dL_law_707 ⟨by decide, by decide⟩ ?_
  refine v_iadd F dL_law_708 ?_
  refine v_nI (x := i + 1) (w32_id (by unfold in32; omega)).symm ?_
  refine v_xald (n := n) (f := f) F dL_law_709 (by decide) hT (by omega) (hf _) ?_
  refine v_aload_n F dL_law_710 rfl rfl ?_
  refine v_iload_n F dL_law_711 rfl rfl ?_
  refine v_iconst F dL_law_712 ⟨by decide, by decide⟩ ?_
  refine v_iadd F dL_law_713 ?_
  refine v_nI (x := i + 2) (w32_id (by unfold in32; omega)).symm ?_
  refine v_xald (n := n) (f := f) F dL_law_714 (by decide) hT (by omega) (hf _) ?_
  refine v_callVv (c := 11) F dL_law_715 cv_L_61 rfl (PB.ob hq1 hX1 (Nat.le_of_ble_eq_true rfl)) (Nat.le_of_ble_eq_true rfl) rfl (vm_X11_age hq1 hc2) rfl ⟨(Nat.le_of_ble_eq_true rfl), (Nat.le_of_ble_eq_true rfl), Nat.le_trans (show _ ≤ kc + 7 by omega) r1, Nat.le_trans (show _ ≤ ks + 82 by omega) r2, (Nat.le_of_ble_eq_true rfl)⟩ ?_
  refine v_icmp_eq F dL_law_718 rfl (fun _ => ?_) (fun h => absurd rfl h)
  refine v_fact fun hv2 hX2 _ _ => ?_
  exact v_widen (show _ ≤ kc + 7 by omega) (show _ ≤ ks + 82 by omega) (kk _ _ hp1 hq1 (h4 hv2 hX2))
theorem lc_11 {w : Wd} {l : Launch} {G : Cx} {Q : State → Prop} {d m : Dt} {kc ks : Nat} {n i : Int} {f : Int → Int} {I : Dt → Dt → Prop} (F : Fx w G code R_law 4 ret room_1) (hT : va_T .int (w.2.1 (-1)) n.toNat (fun j => .int (Int32.ofInt (f j))) (fun q => w.1.size ≤ q) G.2.2.2.1 w.1) (hf : ∀ j, in32 (f j)) (hi : 0 ≤ i ∧ i + 6 ≤ n ∧ n ≤ 384) (hp : PB m 1 0) (hq : PB m 1545 11) (r1 : kc + 7 ≤ room_1.cells) (r2 : ks + 82 ≤ room_1.slots)
    (hs : ∃ d1 m1 r, opX 11 d m (f (i + 1)) (f (i + 2)) (f (i + 3)) (f (i + 4)) (f (i + 5)) = some (d1, m1, r) ∧ PB m1 1 0 ∧ PB m1 1545 11 ∧ (VT w d1 m1 → WF d1 m1 → ∃ d2, opM 11 d1 (f (i + 1)) (f (i + 2)) (f (i + 3)) (f (i + 4)) (f (i + 5)) = some (d2, r) ∧ (VT w d2 m1 → WF d2 m1 → I d2 m1)))
    (kk : ∀ d2 m1, PB m1 1 0 → PB m1 1545 11 → I d2 m1 → V w l WF G Q d2 m1 (kc + 7) (ks + 82) 2206 [mA (-1), mA 1, mA 1545, mI i] []) : V w l WF G Q d m kc ks 723 [mA (-1), mA 1, mA 1545, mI i] [] := by
  obtain ⟨d1, m1, r, h1, hp1, hq1, h2⟩ := hs
  refine v_fact fun hv hX _ _ => ?_
  have hc : fX0_addressOf d (f (i + 1)) (f (i + 2)) = some r ∧ d = d1 ∧ m = m1 := opx_r h1
  obtain ⟨hc, rfl, rfl⟩ := hc
  refine v_aload_n F dL_law_723 rfl rfl ?_
  refine v_aload_n F dL_law_724 rfl rfl ?_
  refine v_iload_n F dL_law_725 rfl rfl ?_
  refine v_iconst F dL_law_726 ⟨by decide, by decide⟩ ?_
  refine v_iadd F dL_law_727 ?_
  refine v_nI (x := i + 1) (w32_id (by unfold in32; omega)).symm ?_
  refine v_xald (n := n) (f := f) F dL_law_728 (by decide) hT (by omega) (hf _) ?_
  refine v_aload_n F dL_law_729 rfl rfl ?_
  refine v_iload_n F dL_law_730 rfl rfl ?_
  refine v_iconst F dL_law_731 ⟨by decide, by decide⟩ ?_
  refine v_iadd F dL_law_732 ?_
  refine v_nI (x := i + 2) (w32_id (by unfold in32; omega)).symm ?_
  refine v_xald (n := n) (f := f) F dL_law_733 (by decide) hT (by omega) (hf _) ?_
  refine v_callVv (c := 0) F dL_law_734 cv_L_62 rfl (PB.ob hp hX (Nat.le_of_ble_eq_true rfl)) (Nat.le_of_ble_eq_true rfl) rfl (vm_X0_addressOf hp hc) rfl ⟨(Nat.le_of_ble_eq_true rfl), (Nat.le_of_ble_eq_true rfl), Nat.le_trans (show _ ≤ kc + 7 by omega) r1, Nat.le_trans (show _ ≤ ks + 82 by omega) r2, (Nat.le_of_ble_eq_true rfl)⟩ ?_
  refine v_fact fun hv1 hX1 _ _ => ?_
  obtain ⟨d2, h3, h4⟩ := h2 hv1 hX1
  have hc2 : fX11_addressOf d (f (i + 1)) (f (i + 2)) = some r ∧ d = d2 := opm_r h3
  obtain ⟨hc2, rfl⟩ := hc2
  refine v_aload_n F dL_law_737 rfl rfl ?_
  refine v_aload_n F dL_law_738 rfl rfl ?_
  refine v_iload_n F dL_law_739 rfl rfl ?_
  refine v_iconst F dL_law_740 ⟨by decide, by decide⟩ ?_
  refine v_iadd F dL_law_741 ?_
  refine v_nI (x := i + 1) (w32_id (by unfold in32; omega)).symm ?_
  refine v_xald (n := n) (f := f) F dL_law_742 (by decide) hT (by omega) (hf _) ?_
  refine v_aload_n F dL_law_743 rfl rfl ?_
  refine v_iload_n F dL_law_744 rfl rfl ?_
  refine v_iconst F dL_law_745 ⟨by decide, by decide⟩ ?_
  refine v_iadd F dL_law_746 ?_
  refine v_nI (x := i + 2) (w32_id (by unfold in32; omega)).symm ?_
  refine v_xald (n := n) (f := f) F dL_law_747 (by decide) hT (by omega) (hf _) ?_
  refine v_callVv (c := 11) F dL_law_748 cv_L_65 rfl (PB.ob hq1 hX1 (Nat.le_of_ble_eq_true rfl)) (Nat.le_of_ble_eq_true rfl) rfl (vm_X11_addressOf hq1 hc2) rfl ⟨(Nat.le_of_ble_eq_true rfl), (Nat.le_of_ble_eq_true rfl), Nat.le_trans (show _ ≤ kc + 7 by omega) r1, Nat.le_trans (show _ ≤ ks + 82 by omega) r2, (Nat.le_of_ble_eq_true rfl)⟩ ?_
  refine v_icmp_eq F dL_law_751 rfl (fun _ => ?_) (fun h => absurd rfl h)
  refine v_fact fun hv2 hX2 _ _ => ?_
  exact v_widen (show _ ≤ kc + 7 by omega) (show _ ≤ ks + 82 by omega) (kk _ _ hp1 hq1 (h4 hv2 hX2))
theorem lc_12 {w : Wd} {l : Launch} {G : Cx} {Q : State → Prop} {d m : Dt} {kc ks : Nat} {n i : Int} {f : Int → Int} {I : Dt → Dt → Prop} (F : Fx w G code R_law 4 ret room_1) (hT : va_T .int (w.2.1 (-1)) n.toNat (fun j => .int (Int32.ofInt (f j))) (fun q => w.1.size ≤ q) G.2.2.2.1 w.1) (hf : ∀ j, in32 (f j)) (hi : 0 ≤ i ∧ i + 6 ≤ n ∧ n ≤ 384) (hp : PB m 1 0) (hq : PB m 1545 11) (r1 : kc + 7 ≤ room_1.cells) (r2 : ks + 82 ≤ room_1.slots)
    (hs : ∃ d1 m1 r, opX 12 d m (f (i + 1)) (f (i + 2)) (f (i + 3)) (f (i + 4)) (f (i + 5)) = some (d1, m1, r) ∧ PB m1 1 0 ∧ PB m1 1545 11 ∧ (VT w d1 m1 → WF d1 m1 → ∃ d2, opM 12 d1 (f (i + 1)) (f (i + 2)) (f (i + 3)) (f (i + 4)) (f (i + 5)) = some (d2, r) ∧ (VT w d2 m1 → WF d2 m1 → I d2 m1)))
    (kk : ∀ d2 m1, PB m1 1 0 → PB m1 1545 11 → I d2 m1 → V w l WF G Q d2 m1 (kc + 7) (ks + 82) 2206 [mA (-1), mA 1, mA 1545, mI i] []) : V w l WF G Q d m kc ks 756 [mA (-1), mA 1, mA 1545, mI i] [] := by
  obtain ⟨d1, m1, r, h1, hp1, hq1, h2⟩ := hs
  refine v_fact fun hv hX _ _ => ?_
  have hc : fX0_is d (f (i + 1)) (f (i + 2)) (f (i + 3)) = some r ∧ d = d1 ∧ m = m1 := opx_r h1
  obtain ⟨hc, rfl, rfl⟩ := hc
  refine v_aload_n F dL_law_756 rfl rfl ?_
  refine v_aload_n F dL_law_757 rfl rfl ?_
  refine v_iload_n F dL_law_758 rfl rfl ?_
  refine v_iconst F dL_law_759 ⟨by decide, by decide⟩ ?_
  refine v_iadd F dL_law_760 ?_
  refine v_nI (x := i + 1) (w32_id (by unfold in32; omega)).symm ?_
  refine v_xald (n := n) (f := f) F dL_law_761 (by decide) hT (by omega) (hf _) ?_
  refine v_aload_n F dL_law_762 rfl rfl ?_
  refine v_iload_n F dL_law_763 rfl rfl ?_
  refine v_iconst F dL_law_764 ⟨by decide, by decide⟩ ?_
  refine v_iadd F dL_law_765 ?_
  refine v_nI (x := i + 2) (w32_id (by unfold in32; omega)).symm ?_
  refine v_xald (n := n) (f := f) F dL_law_766 (by decide) hT (by omega) (hf _) ?_
  refine v_aload_n F dL_law_767 rfl rfl ?_
  refine v_iload_n F dL_law_768 rfl rfl ?_
  refine v_iconst F dL_law_769 ⟨by decide, by decide⟩ ?_
  refine v_iadd F dL_law_770 ?_
  refine v_nI (x := i + 3) (w32_id (by unfold in32; omega)).symm ?_
  refine v_xald (n := n) (f := f) F dL_law_771 (by decide) hT (by omega) (hf _) ?_
  refine v_callVv (c := 0) F dL_law_772 cv_L_66 rfl (PB.ob hp hX (Nat.le_of_ble_eq_true rfl)) (Nat.le_of_ble_eq_true rfl) rfl (vm_X0_is hp hc) rfl ⟨(Nat.le_of_ble_eq_true rfl), (Nat.le_of_ble_eq_true rfl), Nat.le_trans (show _ ≤ kc + 7 by omega) r1, Nat.le_trans (show _ ≤ ks + 82 by omega) r2, (Nat.le_of_ble_eq_true rfl)⟩ ?_
  refine v_fact fun hv1 hX1 _ _ => ?_
  obtain ⟨d2, h3, h4⟩ := h2 hv1 hX1
  have hc2 : fX11_is d (f (i + 1)) (f (i + 2)) (f (i + 3)) = some r ∧ d = d2 := opm_r h3
  obtain ⟨hc2, rfl⟩ := hc2
  refine v_aload_n F dL_law_775 rfl rfl ?_
  refine v_aload_n F dL_law_776 rfl rfl ?_
  refine v_iload_n F dL_law_777 rfl rfl ?_
  refine v_iconst F dL_law_778 ⟨by decide, by decide⟩ ?_
  refine v_iadd F dL_law_779 ?_
  refine v_nI (x := i + 1) (w32_id (by unfold in32; omega)).symm ?_
  refine v_xald (n := n) (f := f) F dL_law_780 (by decide) hT (by omega) (hf _) ?_
  refine v_aload_n F dL_law_781 rfl rfl ?_
  refine v_iload_n F dL_law_782 rfl rfl ?_
  refine v_iconst F dL_law_783 ⟨by decide, by decide⟩ ?_
  refine v_iadd F dL_law_784 ?_
  refine v_nI (x := i + 2) (w32_id (by unfold in32; omega)).symm ?_
  refine v_xald (n := n) (f := f) F dL_law_785 (by decide) hT (by omega) (hf _) ?_
  refine v_aload_n F dL_law_786 rfl rfl ?_
  refine v_iload_n F dL_law_787 rfl rfl ?_
  refine v_iconst F dL_law_788 ⟨by decide, by decide⟩ ?_
  refine v_iadd F dL_law_789 ?_
  refine v_nI (x := i + 3) (w32_id (by unfold in32; omega)).symm ?_
  refine v_xald (n := n) (f := f) F dL_law_790 (by decide) hT (by omega) (hf _) ?_
  refine v_callVv (c := 11) F dL_law_791 cv_L_69 rfl (PB.ob hq1 hX1 (Nat.le_of_ble_eq_true rfl)) (Nat.le_of_ble_eq_true rfl) rfl (vm_X11_is hq1 hc2) rfl ⟨(Nat.le_of_ble_eq_true rfl), (Nat.le_of_ble_eq_true rfl), Nat.le_trans (show _ ≤ kc + 7 by omega) r1, Nat.le_trans (show _ ≤ ks + 82 by omega) r2, (Nat.le_of_ble_eq_true rfl)⟩ ?_
  refine v_icmp_eq F dL_law_794 rfl (fun _ => ?_) (fun h => absurd rfl h)
  refine v_fact fun hv2 hX2 _ _ => ?_
  exact v_widen (show _ ≤ kc + 7 by omega) (show _ ≤ ks + 82 by omega) (kk _ _ hp1 hq1 (h4 hv2 hX2))
theorem lc_13 {w : Wd} {l : Launch} {G : Cx} {Q : State → Prop} {d m : Dt} {kc ks : Nat} {n i : Int} {f : Int → Int} {I : Dt → Dt → Prop} (F : Fx w G code R_law 4 ret room_1) (hT : va_T .int (w.2.1 (-1)) n.toNat (fun j => .int (Int32.ofInt (f j))) (fun q => w.1.size ≤ q) G.2.2.2.1 w.1) (hf : ∀ j, in32 (f j)) (hi : 0 ≤ i ∧ i + 6 ≤ n ∧ n ≤ 384) (hp : PB m 1 0) (hq : PB m 1545 11) (r1 : kc + 7 ≤ room_1.cells) (r2 : ks + 82 ≤ room_1.slots)
    (hs : ∃ d1 m1 r, opX 13 d m (f (i + 1)) (f (i + 2)) (f (i + 3)) (f (i + 4)) (f (i + 5)) = some (d1, m1, r) ∧ PB m1 1 0 ∧ PB m1 1545 11 ∧ (VT w d1 m1 → WF d1 m1 → ∃ d2, opM 13 d1 (f (i + 1)) (f (i + 2)) (f (i + 3)) (f (i + 4)) (f (i + 5)) = some (d2, r) ∧ (VT w d2 m1 → WF d2 m1 → I d2 m1)))
    (kk : ∀ d2 m1, PB m1 1 0 → PB m1 1545 11 → I d2 m1 → V w l WF G Q d2 m1 (kc + 7) (ks + 82) 2206 [mA (-1), mA 1, mA 1545, mI i] []) : V w l WF G Q d m kc ks 799 [mA (-1), mA 1, mA 1545, mI i] [] := by
  obtain ⟨d1, m1, r, h1, hp1, hq1, h2⟩ := hs
  refine v_fact fun hv hX _ _ => ?_
  have hc : fX0_law d = some (d1, r) ∧ m = m1 := opx_w h1
  obtain ⟨hc, rfl⟩ := hc
  refine v_aload_n F dL_law_799 rfl rfl ?_
  refine v_callVv (c := 0) F dL_law_800 cv_L_70 rfl (PB.ob hp hX (Nat.le_of_ble_eq_true rfl)) (Nat.le_of_ble_eq_true rfl) rfl (vm_X0_law hp hc) rfl ⟨(Nat.le_of_ble_eq_true rfl), (Nat.le_of_ble_eq_true rfl), Nat.le_trans (show _ ≤ kc + 7 by omega) r1, Nat.le_trans (show _ ≤ ks + 82 by omega) r2, (Nat.le_of_ble_eq_true rfl)⟩ ?_
  refine v_fact fun hv1 hX1 _ _ => ?_
  obtain ⟨d2, h3, h4⟩ := h2 hv1 hX1
  have hc2 : fX11_law d1 = some (d2, r) := h3
  refine v_aload_n F dL_law_803 rfl rfl ?_
  refine v_callVv (c := 11) F dL_law_804 cv_L_74 rfl (PB.ob hq1 hX1 (Nat.le_of_ble_eq_true rfl)) (Nat.le_of_ble_eq_true rfl) rfl (vm_X11_law hq1 hc2) rfl ⟨(Nat.le_of_ble_eq_true rfl), (Nat.le_of_ble_eq_true rfl), Nat.le_trans (show _ ≤ kc + 7 by omega) r1, Nat.le_trans (show _ ≤ ks + 82 by omega) r2, (Nat.le_of_ble_eq_true rfl)⟩ ?_
  refine v_icmp_eq F dL_law_807 rfl (fun _ => ?_) (fun h => absurd rfl h)
  refine v_fact fun hv2 hX2 _ _ => ?_
  exact v_widen (show _ ≤ kc + 7 by omega) (show _ ≤ ks + 82 by omega) (kk _ _ hp1 hq1 (h4 hv2 hX2))
theorem lc_14 {w : Wd} {l : Launch} {G : Cx} {Q : State → Prop} {d m : Dt} {kc ks : Nat} {n i : Int} {f : Int → Int} {I : Dt → Dt → Prop} (F : Fx w G code R_law 4 ret room_1) (hT : va_T .int (w.2.1 (-1)) n.toNat (fun j => .int (Int32.ofInt (f j))) (fun q => w.1.size ≤ q) G.2.2.2.1 w.1) (hf : ∀ j, in32 (f j)) (hi : 0 ≤ i ∧ i + 6 ≤ n ∧ n ≤ 384) (hp : PB m 1 0) (hq : PB m 1545 11) (r1 : kc + 7 ≤ room_1.cells) (r2 : ks + 82 ≤ room_1.slots)
    (hs : ∃ d1 m1 r, opX 14 d m (f (i + 1)) (f (i + 2)) (f (i + 3)) (f (i + 4)) (f (i + 5)) = some (d1, m1, r) ∧ PB m1 1 0 ∧ PB m1 1545 11 ∧ (VT w d1 m1 → WF d1 m1 → ∃ d2, opM 14 d1 (f (i + 1)) (f (i + 2)) (f (i + 3)) (f (i + 4)) (f (i + 5)) = some (d2, r) ∧ (VT w d2 m1 → WF d2 m1 → I d2 m1)))
    (kk : ∀ d2 m1, PB m1 1 0 → PB m1 1545 11 → I d2 m1 → V w l WF G Q d2 m1 (kc + 7) (ks + 82) 2206 [mA (-1), mA 1, mA 1545, mI i] []) : V w l WF G Q d m kc ks 812 [mA (-1), mA 1, mA 1545, mI i] [] := by
  obtain ⟨d1, m1, r, h1, hp1, hq1, h2⟩ := hs
  refine v_fact fun hv hX _ _ => ?_
  have hc : fX0_days d (f (i + 1)) = some r ∧ d = d1 ∧ m = m1 := opx_r h1
  obtain ⟨hc, rfl, rfl⟩ := hc
  refine v_aload_n F dL_law_812 rfl rfl ?_
  refine v_aload_n F dL_law_813 rfl rfl ?_
  refine v_iload_n F dL_law_814 rfl rfl ?_
  refine v_iconst F dL_law_815 ⟨by decide, by decide⟩ ?_
  refine v_iadd F dL_law_816 ?_
  refine v_nI (x := i + 1) (w32_id (by unfold in32; omega)).symm ?_
  refine v_xald (n := n) (f := f) F dL_law_817 (by decide) hT (by omega) (hf _) ?_
  refine v_callVv (c := 0) F dL_law_818 cv_L_75 rfl (PB.ob hp hX (Nat.le_of_ble_eq_true rfl)) (Nat.le_of_ble_eq_true rfl) rfl (vm_X0_days hp hc) rfl ⟨(Nat.le_of_ble_eq_true rfl), (Nat.le_of_ble_eq_true rfl), Nat.le_trans (show _ ≤ kc + 7 by omega) r1, Nat.le_trans (show _ ≤ ks + 82 by omega) r2, (Nat.le_of_ble_eq_true rfl)⟩ ?_
  refine v_fact fun hv1 hX1 _ _ => ?_
  obtain ⟨d2, h3, h4⟩ := h2 hv1 hX1
  have hc2 : fX11_days d (f (i + 1)) = some r ∧ d = d2 := opm_r h3
  obtain ⟨hc2, rfl⟩ := hc2
  refine v_aload_n F dL_law_821 rfl rfl ?_
  refine v_aload_n F dL_law_822 rfl rfl ?_
  refine v_iload_n F dL_law_823 rfl rfl ?_
  refine v_iconst F dL_law_824 ⟨by decide, by decide⟩ ?_
  refine v_iadd F dL_law_825 ?_
  refine v_nI (x := i + 1) (w32_id (by unfold in32; omega)).symm ?_
  refine v_xald (n := n) (f := f) F dL_law_826 (by decide) hT (by omega) (hf _) ?_
  refine v_callVv (c := 11) F dL_law_827 cv_L_78 rfl (PB.ob hq1 hX1 (Nat.le_of_ble_eq_true rfl)) (Nat.le_of_ble_eq_true rfl) rfl (vm_X11_days hq1 hc2) rfl ⟨(Nat.le_of_ble_eq_true rfl), (Nat.le_of_ble_eq_true rfl), Nat.le_trans (show _ ≤ kc + 7 by omega) r1, Nat.le_trans (show _ ≤ ks + 82 by omega) r2, (Nat.le_of_ble_eq_true rfl)⟩ ?_
  refine v_icmp_eq F dL_law_830 rfl (fun _ => ?_) (fun h => absurd rfl h)
  refine v_fact fun hv2 hX2 _ _ => ?_
  exact v_widen (show _ ≤ kc + 7 by omega) (show _ ≤ ks + 82 by omega) (kk _ _ hp1 hq1 (h4 hv2 hX2))
theorem lc_15 {w : Wd} {l : Launch} {G : Cx} {Q : State → Prop} {d m : Dt} {kc ks : Nat} {n i : Int} {f : Int → Int} {I : Dt → Dt → Prop} (F : Fx w G code R_law 4 ret room_1) (hT : va_T .int (w.2.1 (-1)) n.toNat (fun j => .int (Int32.ofInt (f j))) (fun q => w.1.size ≤ q) G.2.2.2.1 w.1) (hf : ∀ j, in32 (f j)) (hi : 0 ≤ i ∧ i + 6 ≤ n ∧ n ≤ 384) (hp : PB m 1 0) (hq : PB m 1545 11) (r1 : kc + 7 ≤ room_1.cells) (r2 : ks + 82 ≤ room_1.slots)
    (hs : ∃ d1 m1 r, opX 15 d m (f (i + 1)) (f (i + 2)) (f (i + 3)) (f (i + 4)) (f (i + 5)) = some (d1, m1, r) ∧ PB m1 1 0 ∧ PB m1 1545 11 ∧ (VT w d1 m1 → WF d1 m1 → ∃ d2, opM 15 d1 (f (i + 1)) (f (i + 2)) (f (i + 3)) (f (i + 4)) (f (i + 5)) = some (d2, r) ∧ (VT w d2 m1 → WF d2 m1 → I d2 m1)))
    (kk : ∀ d2 m1, PB m1 1 0 → PB m1 1545 11 → I d2 m1 → V w l WF G Q d2 m1 (kc + 7) (ks + 82) 2206 [mA (-1), mA 1, mA 1545, mI i] []) : V w l WF G Q d m kc ks 835 [mA (-1), mA 1, mA 1545, mI i] [] := by
  obtain ⟨d1, m1, r, h1, hp1, hq1, h2⟩ := hs
  refine v_fact fun hv hX _ _ => ?_
  have hc : fX0_contest d (f (i + 1)) (f (i + 2)) = some r ∧ d = d1 ∧ m = m1 := opx_r h1
  obtain ⟨hc, rfl, rfl⟩ := hc
  refine v_aload_n F dL_law_835 rfl rfl ?_
  refine v_aload_n F dL_law_836 rfl rfl ?_
  refine v_iload_n F dL_law_837 rfl rfl ?_
  refine v_iconst F dL_law_838 ⟨by decide, by decide⟩ ?_
  refine v_iadd F dL_law_839 ?_
  refine v_nI (x := i + 1) (w32_id (by unfold in32; omega)).symm ?_
  refine v_xald (n := n) (f := f) F dL_law_840 (by decide) hT (by omega) (hf _) ?_
  refine v_aload_n F dL_law_841 rfl rfl ?_
  refine v_iload_n F dL_law_842 rfl rfl ?_
  refine v_iconst F dL_law_843 ⟨by decide, by decide⟩ ?_
  refine v_iadd F dL_law_844 ?_
  refine v_nI (x := i + 2) (w32_id (by unfold in32; omega)).symm ?_
  refine v_xald (n := n) (f := f) F dL_law_845 (by decide) hT (by omega) (hf _) ?_
  refine v_callVv (c := 0) F dL_law_846 cv_L_79 rfl (PB.ob hp hX (Nat.le_of_ble_eq_true rfl)) (Nat.le_of_ble_eq_true rfl) rfl (vm_X0_contest hp hc) rfl ⟨(Nat.le_of_ble_eq_true rfl), (Nat.le_of_ble_eq_true rfl), Nat.le_trans (show _ ≤ kc + 7 by omega) r1, Nat.le_trans (show _ ≤ ks + 82 by omega) r2, (Nat.le_of_ble_eq_true rfl)⟩ ?_
  refine v_fact fun hv1 hX1 _ _ => ?_
  obtain ⟨d2, h3, h4⟩ := h2 hv1 hX1
  have hc2 : fX11_contest d (f (i + 1)) (f (i + 2)) = some r ∧ d = d2 := opm_r h3
  obtain ⟨hc2, rfl⟩ := hc2
  refine v_aload_n F dL_law_849 rfl rfl ?_
  refine v_aload_n F dL_law_850 rfl rfl ?_
  refine v_iload_n F dL_law_851 rfl rfl ?_
  refine v_iconst F dL_law_852 ⟨by decide, by decide⟩ ?_
  refine v_iadd F dL_law_853 ?_
  refine v_nI (x := i + 1) (w32_id (by unfold in32; omega)).symm ?_
  refine v_xald (n := n) (f := f) F dL_law_854 (by decide) hT (by omega) (hf _) ?_
  refine v_aload_n F dL_law_855 rfl rfl ?_
  refine v_iload_n F dL_law_856 rfl rfl ?_
  refine v_iconst F dL_law_857 ⟨by decide, by decide⟩ ?_
  refine v_iadd F dL_law_858 ?_
  refine v_nI (x := i + 2) (w32_id (by unfold in32; omega)).symm ?_
  refine v_xald (n := n) (f := f) F dL_law_859 (by decide) hT (by omega) (hf _) ?_
  refine v_callVv (c := 11) F dL_law_860 cv_L_82 rfl (PB.ob hq1 hX1 (Nat.le_of_ble_eq_true rfl)) (Nat.le_of_ble_eq_true rfl) rfl (vm_X11_contest hq1 hc2) rfl ⟨(Nat.le_of_ble_eq_true rfl), (Nat.le_of_ble_eq_true rfl), Nat.le_trans (show _ ≤ kc + 7 by omega) r1, Nat.le_trans (show _ ≤ ks + 82 by omega) r2, (Nat.le_of_ble_eq_true rfl)⟩ ?_
  refine v_icmp_eq F dL_law_863 rfl (fun _ => ?_) (fun h => absurd rfl h)
  refine v_fact fun hv2 hX2 _ _ => ?_
  exact v_widen (show _ ≤ kc + 7 by omega) (show _ ≤ ks + 82 by omega) (kk _ _ hp1 hq1 (h4 hv2 hX2))
theorem lc_16 {w : Wd} {l : Launch} {G : Cx} {Q : State → Prop} {d m : Dt} {kc ks : Nat} {n i : Int} {f : Int → Int} {I : Dt → Dt → Prop} (F : Fx w G code R_law 4 ret room_1) (hT : va_T .int (w.2.1 (-1)) n.toNat (fun j => .int (Int32.ofInt (f j))) (fun q => w.1.size ≤ q) G.2.2.2.1 w.1) (hf : ∀ j, in32 (f j)) (hi : 0 ≤ i ∧ i + 6 ≤ n ∧ n ≤ 384) (hp : PB m 1 0) (hq : PB m 1545 11) (r1 : kc + 7 ≤ room_1.cells) (r2 : ks + 82 ≤ room_1.slots)
    (hs : ∃ d1 m1 r, opX 16 d m (f (i + 1)) (f (i + 2)) (f (i + 3)) (f (i + 4)) (f (i + 5)) = some (d1, m1, r) ∧ PB m1 1 0 ∧ PB m1 1545 11 ∧ (VT w d1 m1 → WF d1 m1 → ∃ d2, opM 16 d1 (f (i + 1)) (f (i + 2)) (f (i + 3)) (f (i + 4)) (f (i + 5)) = some (d2, r) ∧ (VT w d2 m1 → WF d2 m1 → I d2 m1)))
    (kk : ∀ d2 m1, PB m1 1 0 → PB m1 1545 11 → I d2 m1 → V w l WF G Q d2 m1 (kc + 7) (ks + 82) 2206 [mA (-1), mA 1, mA 1545, mI i] []) : V w l WF G Q d m kc ks 868 [mA (-1), mA 1, mA 1545, mI i] [] := by
  obtain ⟨d1, m1, r, h1, hp1, hq1, h2⟩ := hs
  refine v_fact fun hv hX _ _ => ?_
  have hc : fX0_may d (f (i + 1)) (f (i + 2)) = some (d1, r) ∧ m = m1 := opx_w h1
  obtain ⟨hc, rfl⟩ := hc
  refine v_aload_n F dL_law_868 rfl rfl ?_
  refine v_aload_n F dL_law_869 rfl rfl ?_
  refine v_iload_n F dL_law_870 rfl rfl ?_
  refine v_iconst F dL_law_871 ⟨by decide, by decide⟩ ?_
  refine v_iadd F dL_law_872 ?_
  refine v_nI (x := i + 1) (w32_id (by unfold in32; omega)).symm ?_
  refine v_xald (n := n) (f := f) F dL_law_873 (by decide) hT (by omega) (hf _) ?_
  refine v_aload_n F dL_law_874 rfl rfl ?_
  refine v_iload_n F dL_law_875 rfl rfl ?_
  refine v_iconst F dL_law_876 ⟨by decide, by decide⟩ ?_
  refine v_iadd F dL_law_877 ?_
  refine v_nI (x := i + 2) (w32_id (by unfold in32; omega)).symm ?_
  refine v_xald (n := n) (f := f) F dL_law_878 (by decide) hT (by omega) (hf _) ?_
  refine v_callVv (c := 0) F dL_law_879 cv_L_83 rfl (PB.ob hp hX (Nat.le_of_ble_eq_true rfl)) (Nat.le_of_ble_eq_true rfl) rfl (vm_X0_may hp hc) rfl ⟨(Nat.le_of_ble_eq_true rfl), (Nat.le_of_ble_eq_true rfl), Nat.le_trans (show _ ≤ kc + 7 by omega) r1, Nat.le_trans (show _ ≤ ks + 82 by omega) r2, (Nat.le_of_ble_eq_true rfl)⟩ ?_
  refine v_fact fun hv1 hX1 _ _ => ?_
  obtain ⟨d2, h3, h4⟩ := h2 hv1 hX1
  have hc2 : fX11_may d1 (f (i + 1)) (f (i + 2)) = some (d2, r) := h3
  refine v_aload_n F dL_law_882 rfl rfl ?_
  refine v_aload_n F dL_law_883 rfl rfl ?_
  refine v_iload_n F dL_law_884 rfl rfl ?_
  refine v_iconst F dL_law_885 ⟨by decide, by decide⟩ ?_
  refine v_iadd F dL_law_886 ?_
  refine v_nI (x := i + 1) (w32_id (by unfold in32; omega)).symm ?_
  refine v_xald (n := n) (f := f) F dL_law_887 (by decide) hT (by omega) (hf _) ?_
  refine v_aload_n F dL_law_888 rfl rfl ?_
  refine v_iload_n F dL_law_889 rfl rfl ?_
  refine v_iconst F dL_law_890 ⟨by decide, by decide⟩ ?_
  refine v_iadd F dL_law_891 ?_
  refine v_nI (x := i + 2) (w32_id (by unfold in32; omega)).symm ?_
  refine v_xald (n := n) (f := f) F dL_law_892 (by decide) hT (by omega) (hf _) ?_
  refine v_callVv (c := 11) F dL_law_893 cv_L_86 rfl (PB.ob hq1 hX1 (Nat.le_of_ble_eq_true rfl)) (Nat.le_of_ble_eq_true rfl) rfl (vm_X11_may hq1 hc2) rfl ⟨(Nat.le_of_ble_eq_true rfl), (Nat.le_of_ble_eq_true rfl), Nat.le_trans (show _ ≤ kc + 7 by omega) r1, Nat.le_trans (show _ ≤ ks + 82 by omega) r2, (Nat.le_of_ble_eq_true rfl)⟩ ?_
  refine v_icmp_eq F dL_law_896 rfl (fun _ => ?_) (fun h => absurd rfl h)
  refine v_fact fun hv2 hX2 _ _ => ?_
  exact v_widen (show _ ≤ kc + 7 by omega) (show _ ≤ ks + 82 by omega) (kk _ _ hp1 hq1 (h4 hv2 hX2))
theorem lc_17 {w : Wd} {l : Launch} {G : Cx} {Q : State → Prop} {d m : Dt} {kc ks : Nat} {n i : Int} {f : Int → Int} {I : Dt → Dt → Prop} (F : Fx w G code R_law 4 ret room_1) (hT : va_T .int (w.2.1 (-1)) n.toNat (fun j => .int (Int32.ofInt (f j))) (fun q => w.1.size ≤ q) G.2.2.2.1 w.1) (hf : ∀ j, in32 (f j)) (hi : 0 ≤ i ∧ i + 6 ≤ n ∧ n ≤ 384) (hp : PB m 1 0) (hq : PB m 1545 11) (r1 : kc + 7 ≤ room_1.cells) (r2 : ks + 82 ≤ room_1.slots)
    (hs : ∃ d1 m1 r, opX 17 d m (f (i + 1)) (f (i + 2)) (f (i + 3)) (f (i + 4)) (f (i + 5)) = some (d1, m1, r) ∧ PB m1 1 0 ∧ PB m1 1545 11 ∧ (VT w d1 m1 → WF d1 m1 → ∃ d2, opM 17 d1 (f (i + 1)) (f (i + 2)) (f (i + 3)) (f (i + 4)) (f (i + 5)) = some (d2, r) ∧ (VT w d2 m1 → WF d2 m1 → I d2 m1)))
    (kk : ∀ d2 m1, PB m1 1 0 → PB m1 1545 11 → I d2 m1 → V w l WF G Q d2 m1 (kc + 7) (ks + 82) 2206 [mA (-1), mA 1, mA 1545, mI i] []) : V w l WF G Q d m kc ks 901 [mA (-1), mA 1, mA 1545, mI i] [] := by
  obtain ⟨d1, m1, r, h1, hp1, hq1, h2⟩ := hs
  refine v_fact fun hv hX _ _ => ?_
  have hc : fX0_place d = r ∧ d = d1 ∧ m = m1 := by cases h1; exact ⟨rfl, rfl, rfl⟩
  obtain ⟨hc, rfl, rfl⟩ := hc
  refine v_aload_n F dL_law_901 rfl rfl ?_
  refine v_callVv (c := 0) F dL_law_902 cv_L_87 rfl (PB.ob hp hX (Nat.le_of_ble_eq_true rfl)) (Nat.le_of_ble_eq_true rfl) rfl (vm_X0_place hp) rfl ⟨(Nat.le_of_ble_eq_true rfl), (Nat.le_of_ble_eq_true rfl), Nat.le_trans (show _ ≤ kc + 7 by omega) r1, Nat.le_trans (show _ ≤ ks + 82 by omega) r2, (Nat.le_of_ble_eq_true rfl)⟩ ?_
  rw [hc]
  refine v_fact fun hv1 hX1 _ _ => ?_
  obtain ⟨d2, h3, h4⟩ := h2 hv1 hX1
  have hc2 : fX11_place d = r ∧ d = d2 := by cases h3; exact ⟨rfl, rfl⟩
  obtain ⟨hc2, rfl⟩ := hc2
  refine v_aload_n F dL_law_905 rfl rfl ?_
  refine v_callVv (c := 11) F dL_law_906 cv_L_90 rfl (PB.ob hq1 hX1 (Nat.le_of_ble_eq_true rfl)) (Nat.le_of_ble_eq_true rfl) rfl (vm_X11_place hq1) rfl ⟨(Nat.le_of_ble_eq_true rfl), (Nat.le_of_ble_eq_true rfl), Nat.le_trans (show _ ≤ kc + 7 by omega) r1, Nat.le_trans (show _ ≤ ks + 82 by omega) r2, (Nat.le_of_ble_eq_true rfl)⟩ ?_
  rw [hc2]
  refine v_icmp_eq F dL_law_909 rfl (fun _ => ?_) (fun h => absurd rfl h)
  refine v_fact fun hv2 hX2 _ _ => ?_
  exact v_widen (show _ ≤ kc + 7 by omega) (show _ ≤ ks + 82 by omega) (kk _ _ hp1 hq1 (h4 hv2 hX2))
theorem lc_18 {w : Wd} {l : Launch} {G : Cx} {Q : State → Prop} {d m : Dt} {kc ks : Nat} {n i : Int} {f : Int → Int} {I : Dt → Dt → Prop} (F : Fx w G code R_law 4 ret room_1) (hT : va_T .int (w.2.1 (-1)) n.toNat (fun j => .int (Int32.ofInt (f j))) (fun q => w.1.size ≤ q) G.2.2.2.1 w.1) (hf : ∀ j, in32 (f j)) (hi : 0 ≤ i ∧ i + 6 ≤ n ∧ n ≤ 384) (hp : PB m 1 0) (hq : PB m 1545 11) (r1 : kc + 7 ≤ room_1.cells) (r2 : ks + 82 ≤ room_1.slots)
    (hs : ∃ d1 m1 r, opX 18 d m (f (i + 1)) (f (i + 2)) (f (i + 3)) (f (i + 4)) (f (i + 5)) = some (d1, m1, r) ∧ PB m1 1 0 ∧ PB m1 1545 11 ∧ (VT w d1 m1 → WF d1 m1 → ∃ d2, opM 18 d1 (f (i + 1)) (f (i + 2)) (f (i + 3)) (f (i + 4)) (f (i + 5)) = some (d2, r) ∧ (VT w d2 m1 → WF d2 m1 → I d2 m1)))
    (kk : ∀ d2 m1, PB m1 1 0 → PB m1 1545 11 → I d2 m1 → V w l WF G Q d2 m1 (kc + 7) (ks + 82) 2206 [mA (-1), mA 1, mA 1545, mI i] []) : V w l WF G Q d m kc ks 914 [mA (-1), mA 1, mA 1545, mI i] [] := by
  obtain ⟨d1, m1, r, h1, hp1, hq1, h2⟩ := hs
  refine v_fact fun hv hX _ _ => ?_
  have hc : fX0_stand d m (f (i + 1)) (f (i + 2)) (f (i + 3)) = some (d1, m1, r) := h1
  refine v_aload_n F dL_law_914 rfl rfl ?_
  refine v_aload_n F dL_law_915 rfl rfl ?_
  refine v_iload_n F dL_law_916 rfl rfl ?_
  refine v_iconst F dL_law_917 ⟨by decide, by decide⟩ ?_
  refine v_iadd F dL_law_918 ?_
  refine v_nI (x := i + 1) (w32_id (by unfold in32; omega)).symm ?_
  refine v_xald (n := n) (f := f) F dL_law_919 (by decide) hT (by omega) (hf _) ?_
  refine v_aload_n F dL_law_920 rfl rfl ?_
  refine v_iload_n F dL_law_921 rfl rfl ?_
  refine v_iconst F dL_law_922 ⟨by decide, by decide⟩ ?_
  refine v_iadd F dL_law_923 ?_
  refine v_nI (x := i + 2) (w32_id (by unfold in32; omega)).symm ?_
  refine v_xald (n := n) (f := f) F dL_law_924 (by decide) hT (by omega) (hf _) ?_
  refine v_aload_n F dL_law_925 rfl rfl ?_
  refine v_iload_n F dL_law_926 rfl rfl ?_
  refine v_iconst F dL_law_927 ⟨by decide, by decide⟩ ?_
  refine v_iadd F dL_law_928 ?_
  refine v_nI (x := i + 3) (w32_id (by unfold in32; omega)).symm ?_
  refine v_xald (n := n) (f := f) F dL_law_929 (by decide) hT (by omega) (hf _) ?_
  refine v_callV (c := 0) F dL_law_930 cv_L_91 rfl (PB.ob hp hX (Nat.le_of_ble_eq_true rfl)) (Nat.le_of_ble_eq_true rfl) rfl (vm_X0_stand hp hc) rfl ⟨(Nat.le_of_ble_eq_true rfl), (Nat.le_of_ble_eq_true rfl), Nat.le_trans (show _ ≤ kc + 7 by omega) r1, Nat.le_trans (show _ ≤ ks + 82 by omega) r2, (Nat.le_of_ble_eq_true rfl)⟩ ?_
  refine v_fact fun hv1 hX1 _ _ => ?_
  obtain ⟨d2, h3, h4⟩ := h2 hv1 hX1
  have hc2 : fX11_stand d1 (f (i + 1)) (f (i + 2)) (f (i + 3)) = some (d2, r) := h3
  refine v_aload_n F dL_law_933 rfl rfl ?_
  refine v_aload_n F dL_law_934 rfl rfl ?_
  refine v_iload_n F dL_law_935 rfl rfl ?_
  refine v_iconst F dL_law_936 ⟨by decide, by decide⟩ ?_
  refine v_iadd F dL_law_937 ?_
  refine v_nI (x := i + 1) (w32_id (by unfold in32; omega)).symm ?_
  refine v_xald (n := n) (f := f) F dL_law_938 (by decide) hT (by omega) (hf _) ?_
  refine v_aload_n F dL_law_939 rfl rfl ?_
  refine v_iload_n F dL_law_940 rfl rfl ?_
  refine v_iconst F dL_law_941 ⟨by decide, by decide⟩ ?_
  refine v_iadd F dL_law_942 ?_
  refine v_nI (x := i + 2) (w32_id (by unfold in32; omega)).symm ?_
  refine v_xald (n := n) (f := f) F dL_law_943 (by decide) hT (by omega) (hf _) ?_
  refine v_aload_n F dL_law_944 rfl rfl ?_
  refine v_iload_n F dL_law_945 rfl rfl ?_
  refine v_iconst F dL_law_946 ⟨by decide, by decide⟩ ?_
  refine v_iadd F dL_law_947 ?_
  refine v_nI (x := i + 3) (w32_id (by unfold in32; omega)).symm ?_
  refine v_xald (n := n) (f := f) F dL_law_948 (by decide) hT (by omega) (hf _) ?_
  refine v_callVv (c := 11) F dL_law_949 cv_L_94 rfl (PB.ob hq1 hX1 (Nat.le_of_ble_eq_true rfl)) (Nat.le_of_ble_eq_true rfl) rfl (vm_X11_stand hq1 hc2) rfl ⟨(Nat.le_of_ble_eq_true rfl), (Nat.le_of_ble_eq_true rfl), Nat.le_trans (show _ ≤ kc + 7 by omega) r1, Nat.le_trans (show _ ≤ ks + 82 by omega) r2, (Nat.le_of_ble_eq_true rfl)⟩ ?_
  refine v_icmp_eq F dL_law_952 rfl (fun _ => ?_) (fun h => absurd rfl h)
  refine v_fact fun hv2 hX2 _ _ => ?_
  exact v_widen (show _ ≤ kc + 7 by omega) (show _ ≤ ks + 82 by omega) (kk _ _ hp1 hq1 (h4 hv2 hX2))
theorem lc_19 {w : Wd} {l : Launch} {G : Cx} {Q : State → Prop} {d m : Dt} {kc ks : Nat} {n i : Int} {f : Int → Int} {I : Dt → Dt → Prop} (F : Fx w G code R_law 4 ret room_1) (hT : va_T .int (w.2.1 (-1)) n.toNat (fun j => .int (Int32.ofInt (f j))) (fun q => w.1.size ≤ q) G.2.2.2.1 w.1) (hf : ∀ j, in32 (f j)) (hi : 0 ≤ i ∧ i + 6 ≤ n ∧ n ≤ 384) (hp : PB m 1 0) (hq : PB m 1545 11) (r1 : kc + 7 ≤ room_1.cells) (r2 : ks + 82 ≤ room_1.slots)
    (hs : ∃ d1 m1 r, opX 19 d m (f (i + 1)) (f (i + 2)) (f (i + 3)) (f (i + 4)) (f (i + 5)) = some (d1, m1, r) ∧ PB m1 1 0 ∧ PB m1 1545 11 ∧ (VT w d1 m1 → WF d1 m1 → ∃ d2, opM 19 d1 (f (i + 1)) (f (i + 2)) (f (i + 3)) (f (i + 4)) (f (i + 5)) = some (d2, r) ∧ (VT w d2 m1 → WF d2 m1 → I d2 m1)))
    (kk : ∀ d2 m1, PB m1 1 0 → PB m1 1545 11 → I d2 m1 → V w l WF G Q d2 m1 (kc + 7) (ks + 82) 2206 [mA (-1), mA 1, mA 1545, mI i] []) : V w l WF G Q d m kc ks 957 [mA (-1), mA 1, mA 1545, mI i] [] := by
  obtain ⟨d1, m1, r, h1, hp1, hq1, h2⟩ := hs
  refine v_fact fun hv hX _ _ => ?_
  have hc : fX0_sign d (f (i + 1)) (f (i + 2)) = some (d1, r) ∧ m = m1 := opx_w h1
  obtain ⟨hc, rfl⟩ := hc
  refine v_aload_n F dL_law_957 rfl rfl ?_
  refine v_aload_n F dL_law_958 rfl rfl ?_
  refine v_iload_n F dL_law_959 rfl rfl ?_
  refine v_iconst F dL_law_960 ⟨by decide, by decide⟩ ?_
  refine v_iadd F dL_law_961 ?_
  refine v_nI (x := i + 1) (w32_id (by unfold in32; omega)).symm ?_
  refine v_xald (n := n) (f := f) F dL_law_962 (by decide) hT (by omega) (hf _) ?_
  refine v_aload_n F dL_law_963 rfl rfl ?_
  refine v_iload_n F dL_law_964 rfl rfl ?_
  refine v_iconst F dL_law_965 ⟨by decide, by decide⟩ ?_
  refine v_iadd F dL_law_966 ?_
  refine v_nI (x := i + 2) (w32_id (by unfold in32; omega)).symm ?_
  refine v_xald (n := n) (f := f) F dL_law_967 (by decide) hT (by omega) (hf _) ?_
  refine v_callVv (c := 0) F dL_law_968 cv_L_95 rfl (PB.ob hp hX (Nat.le_of_ble_eq_true rfl)) (Nat.le_of_ble_eq_true rfl) rfl (vm_X0_sign hp hc) rfl ⟨(Nat.le_of_ble_eq_true rfl), (Nat.le_of_ble_eq_true rfl), Nat.le_trans (show _ ≤ kc + 7 by omega) r1, Nat.le_trans (show _ ≤ ks + 82 by omega) r2, (Nat.le_of_ble_eq_true rfl)⟩ ?_
  refine v_fact fun hv1 hX1 _ _ => ?_
  obtain ⟨d2, h3, h4⟩ := h2 hv1 hX1
  have hc2 : fX11_sign d1 (f (i + 1)) (f (i + 2)) = some (d2, r) := h3
  refine v_aload_n F dL_law_971 rfl rfl ?_
  refine v_aload_n F dL_law_972 rfl rfl ?_
  refine v_iload_n F dL_law_973 rfl rfl ?_
  refine v_iconst F dL_law_974 ⟨by decide, by decide⟩ ?_
  refine v_iadd F dL_law_975 ?_
  refine v_nI (x := i + 1) (w32_id (by unfold in32; omega)).symm ?_
  refine v_xald (n := n) (f := f) F dL_law_976 (by decide) hT (by omega) (hf _) ?_
  refine v_aload_n F dL_law_977 rfl rfl ?_
  refine v_iload_n F dL_law_978 rfl rfl ?_
  refine v_iconst F dL_law_979 ⟨by decide, by decide⟩ ?_
  refine v_iadd F dL_law_980 ?_
  refine v_nI (x := i + 2) (w32_id (by unfold in32; omega)).symm ?_
  refine v_xald (n := n) (f := f) F dL_law_981 (by decide) hT (by omega) (hf _) ?_
  refine v_callVv (c := 11) F dL_law_982 cv_L_98 rfl (PB.ob hq1 hX1 (Nat.le_of_ble_eq_true rfl)) (Nat.le_of_ble_eq_true rfl) rfl (vm_X11_sign hq1 hc2) rfl ⟨(Nat.le_of_ble_eq_true rfl), (Nat.le_of_ble_eq_true rfl), Nat.le_trans (show _ ≤ kc + 7 by omega) r1, Nat.le_trans (show _ ≤ ks + 82 by omega) r2, (Nat.le_of_ble_eq_true rfl)⟩ ?_
  refine v_icmp_eq F dL_law_985 rfl (fun _ => ?_) (fun h => absurd rfl h)
  refine v_fact fun hv2 hX2 _ _ => ?_
  exact v_widen (show _ ≤ kc + 7 by omega) (show _ ≤ ks + 82 by omega) (kk _ _ hp1 hq1 (h4 hv2 hX2))
theorem lc_20 {w : Wd} {l : Launch} {G : Cx} {Q : State → Prop} {d m : Dt} {kc ks : Nat} {n i : Int} {f : Int → Int} {I : Dt → Dt → Prop} (F : Fx w G code R_law 4 ret room_1) (hT : va_T .int (w.2.1 (-1)) n.toNat (fun j => .int (Int32.ofInt (f j))) (fun q => w.1.size ≤ q) G.2.2.2.1 w.1) (hf : ∀ j, in32 (f j)) (hi : 0 ≤ i ∧ i + 6 ≤ n ∧ n ≤ 384) (hp : PB m 1 0) (hq : PB m 1545 11) (r1 : kc + 7 ≤ room_1.cells) (r2 : ks + 82 ≤ room_1.slots)
    (hs : ∃ d1 m1 r, opX 20 d m (f (i + 1)) (f (i + 2)) (f (i + 3)) (f (i + 4)) (f (i + 5)) = some (d1, m1, r) ∧ PB m1 1 0 ∧ PB m1 1545 11 ∧ (VT w d1 m1 → WF d1 m1 → ∃ d2, opM 20 d1 (f (i + 1)) (f (i + 2)) (f (i + 3)) (f (i + 4)) (f (i + 5)) = some (d2, r) ∧ (VT w d2 m1 → WF d2 m1 → I d2 m1)))
    (kk : ∀ d2 m1, PB m1 1 0 → PB m1 1545 11 → I d2 m1 → V w l WF G Q d2 m1 (kc + 7) (ks + 82) 2206 [mA (-1), mA 1, mA 1545, mI i] []) : V w l WF G Q d m kc ks 990 [mA (-1), mA 1, mA 1545, mI i] [] := by
  obtain ⟨d1, m1, r, h1, hp1, hq1, h2⟩ := hs
  refine v_fact fun hv hX _ _ => ?_
  have hc : fX0_withdraw d (f (i + 1)) = some (d1, r) ∧ m = m1 := opx_w h1
  obtain ⟨hc, rfl⟩ := hc
  refine v_aload_n F dL_law_990 rfl rfl ?_
  refine v_aload_n F dL_law_991 rfl rfl ?_
  refine v_iload_n F dL_law_992 rfl rfl ?_
  refine v_iconst F dL_law_993 ⟨by decide, by decide⟩ ?_
  refine v_iadd F dL_law_994 ?_
  refine v_nI (x := i + 1) (w32_id (by unfold in32; omega)).symm ?_
  refine v_xald (n := n) (f := f) F dL_law_995 (by decide) hT (by omega) (hf _) ?_
  refine v_callVv (c := 0) F dL_law_996 cv_L_99 rfl (PB.ob hp hX (Nat.le_of_ble_eq_true rfl)) (Nat.le_of_ble_eq_true rfl) rfl (vm_X0_withdraw hp hc) rfl ⟨(Nat.le_of_ble_eq_true rfl), (Nat.le_of_ble_eq_true rfl), Nat.le_trans (show _ ≤ kc + 7 by omega) r1, Nat.le_trans (show _ ≤ ks + 82 by omega) r2, (Nat.le_of_ble_eq_true rfl)⟩ ?_
  refine v_fact fun hv1 hX1 _ _ => ?_
  obtain ⟨d2, h3, h4⟩ := h2 hv1 hX1
  have hc2 : fX11_withdraw d1 (f (i + 1)) = some (d2, r) := h3
  refine v_aload_n F dL_law_999 rfl rfl ?_
  refine v_aload_n F dL_law_1000 rfl rfl ?_
  refine v_iload_n F dL_law_1001 rfl rfl ?_
  refine v_iconst F dL_law_1002 ⟨by decide, by decide⟩ ?_
  refine v_iadd F dL_law_1003 ?_
  refine v_nI (x := i + 1) (w32_id (by unfold in32; omega)).symm ?_
  refine v_xald (n := n) (f := f) F dL_law_1004 (by decide) hT (by omega) (hf _) ?_
  refine v_callVv (c := 11) F dL_law_1005 cv_L_102 rfl (PB.ob hq1 hX1 (Nat.le_of_ble_eq_true rfl)) (Nat.le_of_ble_eq_true rfl) rfl (vm_X11_withdraw hq1 hc2) rfl ⟨(Nat.le_of_ble_eq_true rfl), (Nat.le_of_ble_eq_true rfl), Nat.le_trans (show _ ≤ kc + 7 by omega) r1, Nat.le_trans (show _ ≤ ks + 82 by omega) r2, (Nat.le_of_ble_eq_true rfl)⟩ ?_
  refine v_icmp_eq F dL_law_1008 rfl (fun _ => ?_) (fun h => absurd rfl h)
  refine v_fact fun hv2 hX2 _ _ => ?_
  exact v_widen (show _ ≤ kc + 7 by omega) (show _ ≤ ks + 82 by omega) (kk _ _ hp1 hq1 (h4 hv2 hX2))
theorem lc_21 {w : Wd} {l : Launch} {G : Cx} {Q : State → Prop} {d m : Dt} {kc ks : Nat} {n i : Int} {f : Int → Int} {I : Dt → Dt → Prop} (F : Fx w G code R_law 4 ret room_1) (hT : va_T .int (w.2.1 (-1)) n.toNat (fun j => .int (Int32.ofInt (f j))) (fun q => w.1.size ≤ q) G.2.2.2.1 w.1) (hf : ∀ j, in32 (f j)) (hi : 0 ≤ i ∧ i + 6 ≤ n ∧ n ≤ 384) (hp : PB m 1 0) (hq : PB m 1545 11) (r1 : kc + 7 ≤ room_1.cells) (r2 : ks + 82 ≤ room_1.slots)
    (hs : ∃ d1 m1 r, opX 21 d m (f (i + 1)) (f (i + 2)) (f (i + 3)) (f (i + 4)) (f (i + 5)) = some (d1, m1, r) ∧ PB m1 1 0 ∧ PB m1 1545 11 ∧ (VT w d1 m1 → WF d1 m1 → ∃ d2, opM 21 d1 (f (i + 1)) (f (i + 2)) (f (i + 3)) (f (i + 4)) (f (i + 5)) = some (d2, r) ∧ (VT w d2 m1 → WF d2 m1 → I d2 m1)))
    (kk : ∀ d2 m1, PB m1 1 0 → PB m1 1545 11 → I d2 m1 → V w l WF G Q d2 m1 (kc + 7) (ks + 82) 2206 [mA (-1), mA 1, mA 1545, mI i] []) : V w l WF G Q d m kc ks 1013 [mA (-1), mA 1, mA 1545, mI i] [] := by
  obtain ⟨d1, m1, r, h1, hp1, hq1, h2⟩ := hs
  refine v_fact fun hv hX _ _ => ?_
  have hc : fX0_nomination d (f (i + 1)) (f (i + 2)) = some r ∧ d = d1 ∧ m = m1 := opx_r h1
  obtain ⟨hc, rfl, rfl⟩ := hc
  refine v_aload_n F dL_law_1013 rfl rfl ?_
  refine v_aload_n F dL_law_1014 rfl rfl ?_
  refine v_iload_n F dL_law_1015 rfl rfl ?_
  refine v_iconst F dL_law_1016 ⟨by decide, by decide⟩ ?_
  refine v_iadd F dL_law_1017 ?_
  refine v_nI (x := i + 1) (w32_id (by unfold in32; omega)).symm ?_
  refine v_xald (n := n) (f := f) F dL_law_1018 (by decide) hT (by omega) (hf _) ?_
  refine v_aload_n F dL_law_1019 rfl rfl ?_
  refine v_iload_n F dL_law_1020 rfl rfl ?_
  refine v_iconst F dL_law_1021 ⟨by decide, by decide⟩ ?_
  refine v_iadd F dL_law_1022 ?_
  refine v_nI (x := i + 2) (w32_id (by unfold in32; omega)).symm ?_
  refine v_xald (n := n) (f := f) F dL_law_1023 (by decide) hT (by omega) (hf _) ?_
  refine v_callVv (c := 0) F dL_law_1024 cv_L_103 rfl (PB.ob hp hX (Nat.le_of_ble_eq_true rfl)) (Nat.le_of_ble_eq_true rfl) rfl (vm_X0_nomination hp hc) rfl ⟨(Nat.le_of_ble_eq_true rfl), (Nat.le_of_ble_eq_true rfl), Nat.le_trans (show _ ≤ kc + 7 by omega) r1, Nat.le_trans (show _ ≤ ks + 82 by omega) r2, (Nat.le_of_ble_eq_true rfl)⟩ ?_
  refine v_fact fun hv1 hX1 _ _ => ?_
  obtain ⟨d2, h3, h4⟩ := h2 hv1 hX1
  have hc2 : fX11_nomination d (f (i + 1)) (f (i + 2)) = some r ∧ d = d2 := opm_r h3
  obtain ⟨hc2, rfl⟩ := hc2
  refine v_aload_n F dL_law_1027 rfl rfl ?_
  refine v_aload_n F dL_law_1028 rfl rfl ?_
  refine v_iload_n F dL_law_1029 rfl rfl ?_
  refine v_iconst F dL_law_1030 ⟨by decide, by decide⟩ ?_
  refine v_iadd F dL_law_1031 ?_
  refine v_nI (x := i + 1) (w32_id (by unfold in32; omega)).symm ?_
  refine v_xald (n := n) (f := f) F dL_law_1032 (by decide) hT (by omega) (hf _) ?_
  refine v_aload_n F dL_law_1033 rfl rfl ?_
  refine v_iload_n F dL_law_1034 rfl rfl ?_
  refine v_iconst F dL_law_1035 ⟨by decide, by decide⟩ ?_
  refine v_iadd F dL_law_1036 ?_
  refine v_nI (x := i + 2) (w32_id (by unfold in32; omega)).symm ?_
  refine v_xald (n := n) (f := f) F dL_law_1037 (by decide) hT (by omega) (hf _) ?_
  refine v_callVv (c := 11) F dL_law_1038 cv_L_106 rfl (PB.ob hq1 hX1 (Nat.le_of_ble_eq_true rfl)) (Nat.le_of_ble_eq_true rfl) rfl (vm_X11_nomination hq1 hc2) rfl ⟨(Nat.le_of_ble_eq_true rfl), (Nat.le_of_ble_eq_true rfl), Nat.le_trans (show _ ≤ kc + 7 by omega) r1, Nat.le_trans (show _ ≤ ks + 82 by omega) r2, (Nat.le_of_ble_eq_true rfl)⟩ ?_
  refine v_icmp_eq F dL_law_1041 rfl (fun _ => ?_) (fun h => absurd rfl h)
  refine v_fact fun hv2 hX2 _ _ => ?_
  exact v_widen (show _ ≤ kc + 7 by omega) (show _ ≤ ks + 82 by omega) (kk _ _ hp1 hq1 (h4 hv2 hX2))
theorem lc_22 {w : Wd} {l : Launch} {G : Cx} {Q : State → Prop} {d m : Dt} {kc ks : Nat} {n i : Int} {f : Int → Int} {I : Dt → Dt → Prop} (F : Fx w G code R_law 4 ret room_1) (hT : va_T .int (w.2.1 (-1)) n.toNat (fun j => .int (Int32.ofInt (f j))) (fun q => w.1.size ≤ q) G.2.2.2.1 w.1) (hf : ∀ j, in32 (f j)) (hi : 0 ≤ i ∧ i + 6 ≤ n ∧ n ≤ 384) (hp : PB m 1 0) (hq : PB m 1545 11) (r1 : kc + 7 ≤ room_1.cells) (r2 : ks + 82 ≤ room_1.slots)
    (hs : ∃ d1 m1 r, opX 22 d m (f (i + 1)) (f (i + 2)) (f (i + 3)) (f (i + 4)) (f (i + 5)) = some (d1, m1, r) ∧ PB m1 1 0 ∧ PB m1 1545 11 ∧ (VT w d1 m1 → WF d1 m1 → ∃ d2, opM 22 d1 (f (i + 1)) (f (i + 2)) (f (i + 3)) (f (i + 4)) (f (i + 5)) = some (d2, r) ∧ (VT w d2 m1 → WF d2 m1 → I d2 m1)))
    (kk : ∀ d2 m1, PB m1 1 0 → PB m1 1545 11 → I d2 m1 → V w l WF G Q d2 m1 (kc + 7) (ks + 82) 2206 [mA (-1), mA 1, mA 1545, mI i] []) : V w l WF G Q d m kc ks 1046 [mA (-1), mA 1, mA 1545, mI i] [] := by
  obtain ⟨d1, m1, r, h1, hp1, hq1, h2⟩ := hs
  refine v_fact fun hv hX _ _ => ?_
  have hc : fX0_freeze d = some (d1, r) ∧ m = m1 := opx_w h1
  obtain ⟨hc, rfl⟩ := hc
  refine v_aload_n F dL_law_1046 rfl rfl ?_
  refine v_callVv (c := 0) F dL_law_1047 cv_L_107 rfl (PB.ob hp hX (Nat.le_of_ble_eq_true rfl)) (Nat.le_of_ble_eq_true rfl) rfl (vm_X0_freeze hp hc) rfl ⟨(Nat.le_of_ble_eq_true rfl), (Nat.le_of_ble_eq_true rfl), Nat.le_trans (show _ ≤ kc + 7 by omega) r1, Nat.le_trans (show _ ≤ ks + 82 by omega) r2, (Nat.le_of_ble_eq_true rfl)⟩ ?_
  refine v_fact fun hv1 hX1 _ _ => ?_
  obtain ⟨d2, h3, h4⟩ := h2 hv1 hX1
  have hc2 : fX11_freeze d1 = some (d2, r) := h3
  refine v_aload_n F dL_law_1050 rfl rfl ?_
  refine v_callVv (c := 11) F dL_law_1051 cv_L_110 rfl (PB.ob hq1 hX1 (Nat.le_of_ble_eq_true rfl)) (Nat.le_of_ble_eq_true rfl) rfl (vm_X11_freeze hq1 hc2) rfl ⟨(Nat.le_of_ble_eq_true rfl), (Nat.le_of_ble_eq_true rfl), Nat.le_trans (show _ ≤ kc + 7 by omega) r1, Nat.le_trans (show _ ≤ ks + 82 by omega) r2, (Nat.le_of_ble_eq_true rfl)⟩ ?_
  refine v_icmp_eq F dL_law_1054 rfl (fun _ => ?_) (fun h => absurd rfl h)
  refine v_fact fun hv2 hX2 _ _ => ?_
  exact v_widen (show _ ≤ kc + 7 by omega) (show _ ≤ ks + 82 by omega) (kk _ _ hp1 hq1 (h4 hv2 hX2))
theorem lc_23 {w : Wd} {l : Launch} {G : Cx} {Q : State → Prop} {d m : Dt} {kc ks : Nat} {n i : Int} {f : Int → Int} {I : Dt → Dt → Prop} (F : Fx w G code R_law 4 ret room_1) (hT : va_T .int (w.2.1 (-1)) n.toNat (fun j => .int (Int32.ofInt (f j))) (fun q => w.1.size ≤ q) G.2.2.2.1 w.1) (hf : ∀ j, in32 (f j)) (hi : 0 ≤ i ∧ i + 6 ≤ n ∧ n ≤ 384) (hp : PB m 1 0) (hq : PB m 1545 11) (r1 : kc + 7 ≤ room_1.cells) (r2 : ks + 82 ≤ room_1.slots)
    (hs : ∃ d1 m1 r, opX 23 d m (f (i + 1)) (f (i + 2)) (f (i + 3)) (f (i + 4)) (f (i + 5)) = some (d1, m1, r) ∧ PB m1 1 0 ∧ PB m1 1545 11 ∧ (VT w d1 m1 → WF d1 m1 → ∃ d2, opM 23 d1 (f (i + 1)) (f (i + 2)) (f (i + 3)) (f (i + 4)) (f (i + 5)) = some (d2, r) ∧ (VT w d2 m1 → WF d2 m1 → I d2 m1)))
    (kk : ∀ d2 m1, PB m1 1 0 → PB m1 1545 11 → I d2 m1 → V w l WF G Q d2 m1 (kc + 7) (ks + 82) 2206 [mA (-1), mA 1, mA 1545, mI i] []) : V w l WF G Q d m kc ks 1059 [mA (-1), mA 1, mA 1545, mI i] [] := by
  obtain ⟨d1, m1, r, h1, hp1, hq1, h2⟩ := hs
  refine v_fact fun hv hX _ _ => ?_
  have hc : fX0_roll d (f (i + 1)) (f (i + 2)) = some r ∧ d = d1 ∧ m = m1 := opx_r h1
  obtain ⟨hc, rfl, rfl⟩ := hc
  refine v_aload_n F dL_law_1059 rfl rfl ?_
  refine v_aload_n F dL_law_1060 rfl rfl ?_
  refine v_iload_n F dL_law_1061 rfl rfl ?_
  refine v_iconst F dL_law_1062 ⟨by decide, by decide⟩ ?_
  refine v_iadd F dL_law_1063 ?_
  refine v_nI (x := i + 1) (w32_id (by unfold in32; omega)).symm ?_
  refine v_xald (n := n) (f := f) F dL_law_1064 (by decide) hT (by omega) (hf _) ?_
  refine v_aload_n F dL_law_1065 rfl rfl ?_
  refine v_iload_n F dL_law_1066 rfl rfl ?_
  refine v_iconst F dL_law_1067 ⟨by decide, by decide⟩ ?_
  refine v_iadd F dL_law_1068 ?_
  refine v_nI (x := i + 2) (w32_id (by unfold in32; omega)).symm ?_
  refine v_xald (n := n) (f := f) F dL_law_1069 (by decide) hT (by omega) (hf _) ?_
  refine v_callVv (c := 0) F dL_law_1070 cv_L_111 rfl (PB.ob hp hX (Nat.le_of_ble_eq_true rfl)) (Nat.le_of_ble_eq_true rfl) rfl (vm_X0_roll hp hc) rfl ⟨(Nat.le_of_ble_eq_true rfl), (Nat.le_of_ble_eq_true rfl), Nat.le_trans (show _ ≤ kc + 7 by omega) r1, Nat.le_trans (show _ ≤ ks + 82 by omega) r2, (Nat.le_of_ble_eq_true rfl)⟩ ?_
  refine v_fact fun hv1 hX1 _ _ => ?_
  obtain ⟨d2, h3, h4⟩ := h2 hv1 hX1
  have hc2 : fX11_roll d (f (i + 1)) (f (i + 2)) = some r ∧ d = d2 := opm_r h3
  obtain ⟨hc2, rfl⟩ := hc2
  refine v_aload_n F dL_law_1073 rfl rfl ?_
  refine v_aload_n F dL_law_1074 rfl rfl ?_
  refine v_iload_n F dL_law_1075 rfl rfl ?_
  refine v_iconst F dL_law_1076 ⟨by decide, by decide⟩ ?_
  refine v_iadd F dL_law_1077 ?_
  refine v_nI (x := i + 1) (w32_id (by unfold in32; omega)).symm ?_
  refine v_xald (n := n) (f := f) F dL_law_1078 (by decide) hT (by omega) (hf _) ?_
  refine v_aload_n F dL_law_1079 rfl rfl ?_
  refine v_iload_n F dL_law_1080 rfl rfl ?_
  refine v_iconst F dL_law_1081 ⟨by decide, by decide⟩ ?_
  refine v_iadd F dL_law_1082 ?_
  refine v_nI (x := i + 2) (w32_id (by unfold in32; omega)).symm ?_
  refine v_xald (n := n) (f := f) F dL_law_1083 (by decide) hT (by omega) (hf _) ?_
  refine v_callVv (c := 11) F dL_law_1084 cv_L_114 rfl (PB.ob hq1 hX1 (Nat.le_of_ble_eq_true rfl)) (Nat.le_of_ble_eq_true rfl) rfl (vm_X11_roll hq1 hc2) rfl ⟨(Nat.le_of_ble_eq_true rfl), (Nat.le_of_ble_eq_true rfl), Nat.le_trans (show _ ≤ kc + 7 by omega) r1, Nat.le_trans (show _ ≤ ks + 82 by omega) r2, (Nat.le_of_ble_eq_true rfl)⟩ ?_
  refine v_icmp_eq F dL_law_1087 rfl (fun _ => ?_) (fun h => absurd rfl h)
  refine v_fact fun hv2 hX2 _ _ => ?_
  exact v_widen (show _ ≤ kc + 7 by omega) (show _ ≤ ks + 82 by omega) (kk _ _ hp1 hq1 (h4 hv2 hX2))
theorem lc_24 {w : Wd} {l : Launch} {G : Cx} {Q : State → Prop} {d m : Dt} {kc ks : Nat} {n i : Int} {f : Int → Int} {I : Dt → Dt → Prop} (F : Fx w G code R_law 4 ret room_1) (hT : va_T .int (w.2.1 (-1)) n.toNat (fun j => .int (Int32.ofInt (f j))) (fun q => w.1.size ≤ q) G.2.2.2.1 w.1) (hf : ∀ j, in32 (f j)) (hi : 0 ≤ i ∧ i + 6 ≤ n ∧ n ≤ 384) (hp : PB m 1 0) (hq : PB m 1545 11) (r1 : kc + 7 ≤ room_1.cells) (r2 : ks + 82 ≤ room_1.slots)
    (hs : ∃ d1 m1 r, opX 24 d m (f (i + 1)) (f (i + 2)) (f (i + 3)) (f (i + 4)) (f (i + 5)) = some (d1, m1, r) ∧ PB m1 1 0 ∧ PB m1 1545 11 ∧ (VT w d1 m1 → WF d1 m1 → ∃ d2, opM 24 d1 (f (i + 1)) (f (i + 2)) (f (i + 3)) (f (i + 4)) (f (i + 5)) = some (d2, r) ∧ (VT w d2 m1 → WF d2 m1 → I d2 m1)))
    (kk : ∀ d2 m1, PB m1 1 0 → PB m1 1545 11 → I d2 m1 → V w l WF G Q d2 m1 (kc + 7) (ks + 82) 2206 [mA (-1), mA 1, mA 1545, mI i] []) : V w l WF G Q d m kc ks 1092 [mA (-1), mA 1, mA 1545, mI i] [] := by
  obtain ⟨d1, m1, r, h1, hp1, hq1, h2⟩ := hs
  refine v_fact fun hv hX _ _ => ?_
  have hc : fX0_appeal d (f (i + 1)) (f (i + 2)) = some (d1, r) ∧ m = m1 := opx_w h1
  obtain ⟨hc, rfl⟩ := hc
  refine v_aload_n F dL_law_1092 rfl rfl ?_
  refine v_aload_n F dL_law_1093 rfl rfl ?_
  refine v_iload_n F dL_law_1094 rfl rfl ?_
  refine v_iconst F dL_law_1095 ⟨by decide, by decide⟩ ?_
  refine v_iadd F dL_law_1096 ?_
  refine v_nI (x := i + 1) (w32_id (by unfold in32; omega)).symm ?_
  refine v_xald (n := n) (f := f) F dL_law_1097 (by decide) hT (by omega) (hf _) ?_
  refine v_aload_n F dL_law_1098 rfl rfl ?_
  refine v_iload_n F dL_law_1099 rfl rfl ?_
  refine v_iconst F dL_law_1100 ⟨by decide, by decide⟩ ?_
  refine v_iadd F dL_law_1101 ?_
  refine v_nI (x := i + 2) (w32_id (by unfold in32; omega)).symm ?_
  refine v_xald (n := n) (f := f) F dL_law_1102 (by decide) hT (by omega) (hf _) ?_
  refine v_callVv (c := 0) F dL_law_1103 cv_L_115 rfl (PB.ob hp hX (Nat.le_of_ble_eq_true rfl)) (Nat.le_of_ble_eq_true rfl) rfl (vm_X0_appeal hp hc) rfl ⟨(Nat.le_of_ble_eq_true rfl), (Nat.le_of_ble_eq_true rfl), Nat.le_trans (show _ ≤ kc + 7 by omega) r1, Nat.le_trans (show _ ≤ ks + 82 by omega) r2, (Nat.le_of_ble_eq_true rfl)⟩ ?_
  refine v_fact fun hv1 hX1 _ _ => ?_
  obtain ⟨d2, h3, h4⟩ := h2 hv1 hX1
  have hc2 : fX11_appeal d1 (f (i + 1)) (f (i + 2)) = some (d2, r) := h3
  refine v_aload_n F dL_law_1106 rfl rfl ?_
  refine v_aload_n F dL_law_1107 rfl rfl ?_
  refine v_iload_n F dL_law_1108 rfl rfl ?_
  refine v_iconst F dL_law_1109 ⟨by decide, by decide⟩ ?_
  refine v_iadd F dL_law_1110 ?_
  refine v_nI (x := i + 1) (w32_id (by unfold in32; omega)).symm ?_
  refine v_xald (n := n) (f := f) F dL_law_1111 (by decide) hT (by omega) (hf _) ?_
  refine v_aload_n F dL_law_1112 rfl rfl ?_
  refine v_iload_n F dL_law_1113 rfl rfl ?_
  refine v_iconst F dL_law_1114 ⟨by decide, by decide⟩ ?_
  refine v_iadd F dL_law_1115 ?_
  refine v_nI (x := i + 2) (w32_id (by unfold in32; omega)).symm ?_
  refine v_xald (n := n) (f := f) F dL_law_1116 (by decide) hT (by omega) (hf _) ?_
  refine v_callVv (c := 11) F dL_law_1117 cv_L_118 rfl (PB.ob hq1 hX1 (Nat.le_of_ble_eq_true rfl)) (Nat.le_of_ble_eq_true rfl) rfl (vm_X11_appeal hq1 hc2) rfl ⟨(Nat.le_of_ble_eq_true rfl), (Nat.le_of_ble_eq_true rfl), Nat.le_trans (show _ ≤ kc + 7 by omega) r1, Nat.le_trans (show _ ≤ ks + 82 by omega) r2, (Nat.le_of_ble_eq_true rfl)⟩ ?_
  refine v_icmp_eq F dL_law_1120 rfl (fun _ => ?_) (fun h => absurd rfl h)
  refine v_fact fun hv2 hX2 _ _ => ?_
  exact v_widen (show _ ≤ kc + 7 by omega) (show _ ≤ ks + 82 by omega) (kk _ _ hp1 hq1 (h4 hv2 hX2))
theorem lc_25 {w : Wd} {l : Launch} {G : Cx} {Q : State → Prop} {d m : Dt} {kc ks : Nat} {n i : Int} {f : Int → Int} {I : Dt → Dt → Prop} (F : Fx w G code R_law 4 ret room_1) (hT : va_T .int (w.2.1 (-1)) n.toNat (fun j => .int (Int32.ofInt (f j))) (fun q => w.1.size ≤ q) G.2.2.2.1 w.1) (hf : ∀ j, in32 (f j)) (hi : 0 ≤ i ∧ i + 6 ≤ n ∧ n ≤ 384) (hp : PB m 1 0) (hq : PB m 1545 11) (r1 : kc + 7 ≤ room_1.cells) (r2 : ks + 82 ≤ room_1.slots)
    (hs : ∃ d1 m1 r, opX 25 d m (f (i + 1)) (f (i + 2)) (f (i + 3)) (f (i + 4)) (f (i + 5)) = some (d1, m1, r) ∧ PB m1 1 0 ∧ PB m1 1545 11 ∧ (VT w d1 m1 → WF d1 m1 → ∃ d2, opM 25 d1 (f (i + 1)) (f (i + 2)) (f (i + 3)) (f (i + 4)) (f (i + 5)) = some (d2, r) ∧ (VT w d2 m1 → WF d2 m1 → I d2 m1)))
    (kk : ∀ d2 m1, PB m1 1 0 → PB m1 1545 11 → I d2 m1 → V w l WF G Q d2 m1 (kc + 7) (ks + 82) 2206 [mA (-1), mA 1, mA 1545, mI i] []) : V w l WF G Q d m kc ks 1125 [mA (-1), mA 1, mA 1545, mI i] [] := by
  obtain ⟨d1, m1, r, h1, hp1, hq1, h2⟩ := hs
  refine v_fact fun hv hX _ _ => ?_
  have hc : fX0_decide d (f (i + 1)) (f (i + 2)) = some (d1, r) ∧ m = m1 := opx_w h1
  obtain ⟨hc, rfl⟩ := hc
  refine v_aload_n F dL_law_1125 rfl rfl ?_
  refine v_aload_n F dL_law_1126 rfl rfl ?_
  refine v_iload_n F dL_law_1127 rfl rfl ?_
  refine v_iconst F dL_law_1128 ⟨by decide, by decide⟩ ?_
  refine v_iadd F dL_law_1129 ?_
  refine v_nI (x := i + 1) (w32_id (by unfold in32; omega)).symm ?_
  refine v_xald (n := n) (f := f) F dL_law_1130 (by decide) hT (by omega) (hf _) ?_
  refine v_aload_n F dL_law_1131 rfl rfl ?_
  refine v_iload_n F dL_law_1132 rfl rfl ?_
  refine v_iconst F dL_law_1133 ⟨by decide, by decide⟩ ?_
  refine v_iadd F dL_law_1134 ?_
  refine v_nI (x := i + 2) (w32_id (by unfold in32; omega)).symm ?_
  refine v_xald (n := n) (f := f) F dL_law_1135 (by decide) hT (by omega) (hf _) ?_
  refine v_callVv (c := 0) F dL_law_1136 cv_L_119 rfl (PB.ob hp hX (Nat.le_of_ble_eq_true rfl)) (Nat.le_of_ble_eq_true rfl) rfl (vm_X0_decide hp hc) rfl ⟨(Nat.le_of_ble_eq_true rfl), (Nat.le_of_ble_eq_true rfl), Nat.le_trans (show _ ≤ kc + 7 by omega) r1, Nat.le_trans (show _ ≤ ks + 82 by omega) r2, (Nat.le_of_ble_eq_true rfl)⟩ ?_
  refine v_fact fun hv1 hX1 _ _ => ?_
  obtain ⟨d2, h3, h4⟩ := h2 hv1 hX1
  have hc2 : fX11_decide d1 (f (i + 1)) (f (i + 2)) = some (d2, r) := h3
  refine v_aload_n F dL_law_1139 rfl rfl ?_
  refine v_aload_n F dL_law_1140 rfl rfl ?_
  refine v_iload_n F dL_law_1141 rfl rfl ?_
  refine v_iconst F dL_law_1142 ⟨by decide, by decide⟩ ?_
  refine v_iadd F dL_law_1143 ?_
  refine v_nI (x := i + 1) (w32_id (by unfold in32; omega)).symm ?_
  refine v_xald (n := n) (f := f) F dL_law_1144 (by decide) hT (by omega) (hf _) ?_
  refine v_aload_n F dL_law_1145 rfl rfl ?_
  refine v_iload_n F dL_law_1146 rfl rfl ?_
  refine v_iconst F dL_law_1147 ⟨by decide, by decide⟩ ?_
  refine v_iadd F dL_law_1148 ?_
  refine v_nI (x := i + 2) (w32_id (by unfold in32; omega)).symm ?_
  refine v_xald (n := n) (f := f) F dL_law_1149 (by decide) hT (by omega) (hf _) ?_
  refine v_callVv (c := 11) F dL_law_1150 cv_L_122 rfl (PB.ob hq1 hX1 (Nat.le_of_ble_eq_true rfl)) (Nat.le_of_ble_eq_true rfl) rfl (vm_X11_decide hq1 hc2) rfl ⟨(Nat.le_of_ble_eq_true rfl), (Nat.le_of_ble_eq_true rfl), Nat.le_trans (show _ ≤ kc + 7 by omega) r1, Nat.le_trans (show _ ≤ ks + 82 by omega) r2, (Nat.le_of_ble_eq_true rfl)⟩ ?_
  refine v_icmp_eq F dL_law_1153 rfl (fun _ => ?_) (fun h => absurd rfl h)
  refine v_fact fun hv2 hX2 _ _ => ?_
  exact v_widen (show _ ≤ kc + 7 by omega) (show _ ≤ ks + 82 by omega) (kk _ _ hp1 hq1 (h4 hv2 hX2))
theorem lc_26 {w : Wd} {l : Launch} {G : Cx} {Q : State → Prop} {d m : Dt} {kc ks : Nat} {n i : Int} {f : Int → Int} {I : Dt → Dt → Prop} (F : Fx w G code R_law 4 ret room_1) (hT : va_T .int (w.2.1 (-1)) n.toNat (fun j => .int (Int32.ofInt (f j))) (fun q => w.1.size ≤ q) G.2.2.2.1 w.1) (hf : ∀ j, in32 (f j)) (hi : 0 ≤ i ∧ i + 6 ≤ n ∧ n ≤ 384) (hp : PB m 1 0) (hq : PB m 1545 11) (r1 : kc + 7 ≤ room_1.cells) (r2 : ks + 82 ≤ room_1.slots)
    (hs : ∃ d1 m1 r, opX 26 d m (f (i + 1)) (f (i + 2)) (f (i + 3)) (f (i + 4)) (f (i + 5)) = some (d1, m1, r) ∧ PB m1 1 0 ∧ PB m1 1545 11 ∧ (VT w d1 m1 → WF d1 m1 → ∃ d2, opM 26 d1 (f (i + 1)) (f (i + 2)) (f (i + 3)) (f (i + 4)) (f (i + 5)) = some (d2, r) ∧ (VT w d2 m1 → WF d2 m1 → I d2 m1)))
    (kk : ∀ d2 m1, PB m1 1 0 → PB m1 1545 11 → I d2 m1 → V w l WF G Q d2 m1 (kc + 7) (ks + 82) 2206 [mA (-1), mA 1, mA 1545, mI i] []) : V w l WF G Q d m kc ks 1158 [mA (-1), mA 1, mA 1545, mI i] [] := by
  obtain ⟨d1, m1, r, h1, hp1, hq1, h2⟩ := hs
  refine v_fact fun hv hX _ _ => ?_
  have hc : fX0_sheets d (f (i + 1)) (f (i + 2)) = some r ∧ d = d1 ∧ m = m1 := opx_r h1
  obtain ⟨hc, rfl, rfl⟩ := hc
  refine v_aload_n F dL_law_1158 rfl rfl ?_
  refine v_aload_n F dL_law_1159 rfl rfl ?_
  refine v_iload_n F dL_law_1160 rfl rfl ?_
  refine v_iconst F dL_law_1161 ⟨by decide, by decide⟩ ?_
  refine v_iadd F dL_law_1162 ?_
  refine v_nI (x := i + 1) (w32_id (by unfold in32; omega)).symm ?_
  refine v_xald (n := n) (f := f) F dL_law_1163 (by decide) hT (by omega) (hf _) ?_
  refine v_aload_n F dL_law_1164 rfl rfl ?_
  refine v_iload_n F dL_law_1165 rfl rfl ?_
  refine v_iconst F dL_law_1166 ⟨by decide, by decide⟩ ?_
  refine v_iadd F dL_law_1167 ?_
  refine v_nI (x := i + 2) (w32_id (by unfold in32; omega)).symm ?_
  refine v_xald (n := n) (f := f) F dL_law_1168 (by decide) hT (by omega) (hf _) ?_
  refine v_callVv (c := 0) F dL_law_1169 cv_L_123 rfl (PB.ob hp hX (Nat.le_of_ble_eq_true rfl)) (Nat.le_of_ble_eq_true rfl) rfl (vm_X0_sheets hp hc) rfl ⟨(Nat.le_of_ble_eq_true rfl), (Nat.le_of_ble_eq_true rfl), Nat.le_trans (show _ ≤ kc + 7 by omega) r1, Nat.le_trans (show _ ≤ ks + 82 by omega) r2, (Nat.le_of_ble_eq_true rfl)⟩ ?_
  refine v_fact fun hv1 hX1 _ _ => ?_
  obtain ⟨d2, h3, h4⟩ := h2 hv1 hX1
  have hc2 : fX11_sheets d (f (i + 1)) (f (i + 2)) = some r ∧ d = d2 := opm_r h3
  obtain ⟨hc2, rfl⟩ := hc2
  refine v_aload_n F dL_law_1172 rfl rfl ?_
  refine v_aload_n F dL_law_1173 rfl rfl ?_
  refine v_iload_n F dL_law_1174 rfl rfl ?_
  refine v_iconst F dL_law_1175 ⟨by decide, by decide⟩ ?_
  refine v_iadd F dL_law_1176 ?_
  refine v_nI (x := i + 1) (w32_id (by unfold in32; omega)).symm ?_
  refine v_xald (n := n) (f := f) F dL_law_1177 (by decide) hT (by omega) (hf _) ?_
  refine v_aload_n F dL_law_1178 rfl rfl ?_
  refine v_iload_n F dL_law_1179 rfl rfl ?_
  refine v_iconst F dL_law_1180 ⟨by decide, by decide⟩ ?_
  refine v_iadd F dL_law_1181 ?_
  refine v_nI (x := i + 2) (w32_id (by unfold in32; omega)).symm ?_
  refine v_xald (n := n) (f := f) F dL_law_1182 (by decide) hT (by omega) (hf _) ?_
  refine v_callVv (c := 11) F dL_law_1183 cv_L_126 rfl (PB.ob hq1 hX1 (Nat.le_of_ble_eq_true rfl)) (Nat.le_of_ble_eq_true rfl) rfl (vm_X11_sheets hq1 hc2) rfl ⟨(Nat.le_of_ble_eq_true rfl), (Nat.le_of_ble_eq_true rfl), Nat.le_trans (show _ ≤ kc + 7 by omega) r1, Nat.le_trans (show _ ≤ ks + 82 by omega) r2, (Nat.le_of_ble_eq_true rfl)⟩ ?_
  refine v_icmp_eq F dL_law_1186 rfl (fun _ => ?_) (fun h => absurd rfl h)
  refine v_fact fun hv2 hX2 _ _ => ?_
  exact v_widen (show _ ≤ kc + 7 by omega) (show _ ≤ ks + 82 by omega) (kk _ _ hp1 hq1 (h4 hv2 hX2))
theorem lc_27 {w : Wd} {l : Launch} {G : Cx} {Q : State → Prop} {d m : Dt} {kc ks : Nat} {n i : Int} {f : Int → Int} {I : Dt → Dt → Prop} (F : Fx w G code R_law 4 ret room_1) (hT : va_T .int (w.2.1 (-1)) n.toNat (fun j => .int (Int32.ofInt (f j))) (fun q => w.1.size ≤ q) G.2.2.2.1 w.1) (hf : ∀ j, in32 (f j)) (hi : 0 ≤ i ∧ i + 6 ≤ n ∧ n ≤ 384) (hp : PB m 1 0) (hq : PB m 1545 11) (r1 : kc + 7 ≤ room_1.cells) (r2 : ks + 82 ≤ room_1.slots)
    (hs : ∃ d1 m1 r, opX 27 d m (f (i + 1)) (f (i + 2)) (f (i + 3)) (f (i + 4)) (f (i + 5)) = some (d1, m1, r) ∧ PB m1 1 0 ∧ PB m1 1545 11 ∧ (VT w d1 m1 → WF d1 m1 → ∃ d2, opM 27 d1 (f (i + 1)) (f (i + 2)) (f (i + 3)) (f (i + 4)) (f (i + 5)) = some (d2, r) ∧ (VT w d2 m1 → WF d2 m1 → I d2 m1)))
    (kk : ∀ d2 m1, PB m1 1 0 → PB m1 1545 11 → I d2 m1 → V w l WF G Q d2 m1 (kc + 7) (ks + 82) 2206 [mA (-1), mA 1, mA 1545, mI i] []) : V w l WF G Q d m kc ks 1191 [mA (-1), mA 1, mA 1545, mI i] [] := by
  obtain ⟨d1, m1, r, h1, hp1, hq1, h2⟩ := hs
  refine v_fact fun hv hX _ _ => ?_
  have hc : fX0_candidate d (f (i + 1)) (f (i + 2)) (f (i + 3)) = some r ∧ d = d1 ∧ m = m1 := opx_r h1
  obtain ⟨hc, rfl, rfl⟩ := hc
  refine v_aload_n F dL_law_1191 rfl rfl ?_
  refine v_aload_n F dL_law_1192 rfl rfl ?_
  refine v_iload_n F dL_law_1193 rfl rfl ?_
  refine v_iconst F dL_law_1194 ⟨by decide, by decide⟩ ?_
  refine v_iadd F dL_law_1195 ?_
  refine v_nI (x := i + 1) (w32_id (by unfold in32; omega)).symm ?_
  refine v_xald (n := n) (f := f) F dL_law_1196 (by decide) hT (by omega) (hf _) ?_
  refine v_aload_n F dL_law_1197 rfl rfl ?_
  refine v_iload_n F dL_law_1198 rfl rfl ?_
  refine v_iconst F dL_law_1199 ⟨by decide, by decide⟩ ?_
  refine v_iadd F dL_law_1200 ?_
  refine v_nI (x := i + 2) (w32_id (by unfold in32; omega)).symm ?_
  refine v_xald (n := n) (f := f) F dL_law_1201 (by decide) hT (by omega) (hf _) ?_
  refine v_aload_n F dL_law_1202 rfl rfl ?_
  refine v_iload_n F dL_law_1203 rfl rfl ?_
  refine v_iconst F dL_law_1204 ⟨by decide, by decide⟩ ?_
  refine v_iadd F dL_law_1205 ?_
  refine v_nI (x := i + 3) (w32_id (by unfold in32; omega)).symm ?_
  refine v_xald (n := n) (f := f) F dL_law_1206 (by decide) hT (by omega) (hf _) ?_
  refine v_callVv (c := 0) F dL_law_1207 cv_L_127 rfl (PB.ob hp hX (Nat.le_of_ble_eq_true rfl)) (Nat.le_of_ble_eq_true rfl) rfl (vm_X0_candidate hp hc) rfl ⟨(Nat.le_of_ble_eq_true rfl), (Nat.le_of_ble_eq_true rfl), Nat.le_trans (show _ ≤ kc + 7 by omega) r1, Nat.le_trans (show _ ≤ ks + 82 by omega) r2, (Nat.le_of_ble_eq_true rfl)⟩ ?_
  refine v_fact fun hv1 hX1 _ _ => ?_
  obtain ⟨d2, h3, h4⟩ := h2 hv1 hX1
  have hc2 : fX11_candidate d (f (i + 1)) (f (i + 2)) (f (i + 3)) = some r ∧ d = d2 := opm_r h3
  obtain ⟨hc2, rfl⟩ := hc2
  refine v_aload_n F dL_law_1210 rfl rfl ?_
  refine v_aload_n F dL_law_1211 rfl rfl ?_
  refine v_iload_n F dL_law_1212 rfl rfl ?_
  refine v_iconst F dL_law_1213 ⟨by decide, by decide⟩ ?_
  refine v_iadd F dL_law_1214 ?_
  refine v_nI (x := i + 1) (w32_id (by unfold in32; omega)).symm ?_
  refine v_xald (n := n) (f := f) F dL_law_1215 (by decide) hT (by omega) (hf _) ?_
  refine v_aload_n F dL_law_1216 rfl rfl ?_
  refine v_iload_n F dL_law_1217 rfl rfl ?_
  refine v_iconst F dL_law_1218 ⟨by decide, by decide⟩ ?_
  refine v_iadd F dL_law_1219 ?_
  refine v_nI (x := i + 2) (w32_id (by unfold in32; omega)).symm ?_
  refine v_xald (n := n) (f := f) F dL_law_1220 (by decide) hT (by omega) (hf _) ?_
  refine v_aload_n F dL_law_1221 rfl rfl ?_
  refine v_iload_n F dL_law_1222 rfl rfl ?_
  refine v_iconst F dL_law_1223 ⟨by decide, by decide⟩ ?_
  refine v_iadd F dL_law_1224 ?_
  refine v_nI (x := i + 3) (w32_id (by unfold in32; omega)).symm ?_
  refine v_xald (n := n) (f := f) F dL_law_1225 (by decide) hT (by omega) (hf _) ?_
  refine v_callVv (c := 11) F dL_law_1226 cv_L_130 rfl (PB.ob hq1 hX1 (Nat.le_of_ble_eq_true rfl)) (Nat.le_of_ble_eq_true rfl) rfl (vm_X11_candidate hq1 hc2) rfl ⟨(Nat.le_of_ble_eq_true rfl), (Nat.le_of_ble_eq_true rfl), Nat.le_trans (show _ ≤ kc + 7 by omega) r1, Nat.le_trans (show _ ≤ ks + 82 by omega) r2, (Nat.le_of_ble_eq_true rfl)⟩ ?_
  refine v_icmp_eq F dL_law_1229 rfl (fun _ => ?_) (fun h => absurd rfl h)
  refine v_fact fun hv2 hX2 _ _ => ?_
  exact v_widen (show _ ≤ kc + 7 by omega) (show _ ≤ ks + 82 by omega) (kk _ _ hp1 hq1 (h4 hv2 hX2))
theorem lc_28 {w : Wd} {l : Launch} {G : Cx} {Q : State → Prop} {d m : Dt} {kc ks : Nat} {n i : Int} {f : Int → Int} {I : Dt → Dt → Prop} (F : Fx w G code R_law 4 ret room_1) (hT : va_T .int (w.2.1 (-1)) n.toNat (fun j => .int (Int32.ofInt (f j))) (fun q => w.1.size ≤ q) G.2.2.2.1 w.1) (hf : ∀ j, in32 (f j)) (hi : 0 ≤ i ∧ i + 6 ≤ n ∧ n ≤ 384) (hp : PB m 1 0) (hq : PB m 1545 11) (r1 : kc + 7 ≤ room_1.cells) (r2 : ks + 82 ≤ room_1.slots)
    (hs : ∃ d1 m1 r, opX 28 d m (f (i + 1)) (f (i + 2)) (f (i + 3)) (f (i + 4)) (f (i + 5)) = some (d1, m1, r) ∧ PB m1 1 0 ∧ PB m1 1545 11 ∧ (VT w d1 m1 → WF d1 m1 → ∃ d2, opM 28 d1 (f (i + 1)) (f (i + 2)) (f (i + 3)) (f (i + 4)) (f (i + 5)) = some (d2, r) ∧ (VT w d2 m1 → WF d2 m1 → I d2 m1)))
    (kk : ∀ d2 m1, PB m1 1 0 → PB m1 1545 11 → I d2 m1 → V w l WF G Q d2 m1 (kc + 7) (ks + 82) 2206 [mA (-1), mA 1, mA 1545, mI i] []) : V w l WF G Q d m kc ks 1234 [mA (-1), mA 1, mA 1545, mI i] [] := by
  obtain ⟨d1, m1, r, h1, hp1, hq1, h2⟩ := hs
  refine v_fact fun hv hX _ _ => ?_
  have hc : fX0_lots d (f (i + 1)) (jOr (jShl (f (i + 2)) 32) (jAnd (f (i + 3)) 4294967295)) = some (d1, r) ∧ m = m1 := opx_w h1
  obtain ⟨hc, rfl⟩ := hc
  refine v_aload_n F dL_law_1234 rfl rfl ?_
  refine v_aload_n F dL_law_1235 rfl rfl ?_
  refine v_iload_n F dL_law_1236 rfl rfl ?_
  refine v_iconst F dL_law_1237 ⟨by decide, by decide⟩ ?_
  refine v_iadd F dL_law_1238 ?_
  refine v_nI (x := i + 1) (w32_id (by unfold in32; omega)).symm ?_
  refine v_xald (n := n) (f := f) F dL_law_1239 (by decide) hT (by omega) (hf _) ?_
  refine v_aload_n F dL_law_1240 rfl rfl ?_
  refine v_iload_n F dL_law_1241 rfl rfl ?_
  refine v_iconst F dL_law_1242 ⟨by decide, by decide⟩ ?_
  refine v_iadd F dL_law_1243 ?_
  refine v_nI (x := i + 2) (w32_id (by unfold in32; omega)).symm ?_
  refine v_xald (n := n) (f := f) F dL_law_1244 (by decide) hT (by omega) (hf _) ?_
  refine v_i2l F dL_law_1245 ?_
  refine v_bipush F dL_law_1246 rfl ⟨by decide, by decide⟩ ?_
  refine v_lshl F dL_law_1248 ?_
  refine v_aload_n F dL_law_1249 rfl rfl ?_
  refine v_iload_n F dL_law_1250 rfl rfl ?_
  refine v_iconst F dL_law_1251 ⟨by decide, by decide⟩ ?_
  refine v_iadd F dL_law_1252 ?_
  refine v_nI (x := i + 3) (w32_id (by unfold in32; omega)).symm ?_
  refine v_xald (n := n) (f := f) F dL_law_1253 (by decide) hT (by omega) (hf _) ?_
  refine v_i2l F dL_law_1254 ?_
  refine v_ldc2 (n := 4294967295) F dL_law_1255 q3901 rfl ⟨by decide, by decide⟩ ?_
  refine v_land F dL_law_1258 ?_
  refine v_lor F dL_law_1259 ?_
  refine v_callVv (c := 0) F dL_law_1260 cv_L_133 rfl (PB.ob hp hX (Nat.le_of_ble_eq_true rfl)) (Nat.le_of_ble_eq_true rfl) rfl (vm_X0_lots hp hc) rfl ⟨(Nat.le_of_ble_eq_true rfl), (Nat.le_of_ble_eq_true rfl), Nat.le_trans (show _ ≤ kc + 7 by omega) r1, Nat.le_trans (show _ ≤ ks + 82 by omega) r2, (Nat.le_of_ble_eq_true rfl)⟩ ?_
  refine v_fact fun hv1 hX1 _ _ => ?_
  obtain ⟨d2, h3, h4⟩ := h2 hv1 hX1
  have hc2 : fX11_lots d1 (f (i + 1)) (jOr (jShl (f (i + 2)) 32) (jAnd (f (i + 3)) 4294967295)) = some (d2, r) := h3
  refine v_aload_n F dL_law_1263 rfl rfl ?_
  refine v_aload_n F dL_law_1264 rfl rfl ?_
  refine v_iload_n F dL_law_1265 rfl rfl ?_
  refine v_iconst F dL_law_1266 ⟨by decide, by decide⟩ ?_
  refine v_iadd F dL_law_1267 ?_
  refine v_nI (x := i + 1) (w32_id (by unfold in32; omega)).symm ?_
  refine v_xald (n := n) (f := f) F dL_law_1268 (by decide) hT (by omega) (hf _) ?_
  refine v_aload_n F dL_law_1269 rfl rfl ?_
  refine v_iload_n F dL_law_1270 rfl rfl ?_
  refine v_iconst F dL_law_1271 ⟨by decide, by decide⟩ ?_
  refine v_iadd F dL_law_1272 ?_
  refine v_nI (x := i + 2) (w32_id (by unfold in32; omega)).symm ?_
  refine v_xald (n := n) (f := f) F dL_law_1273 (by decide) hT (by omega) (hf _) ?_
  refine v_i2l F dL_law_1274 ?_
  refine v_bipush F dL_law_1275 rfl ⟨by decide, by decide⟩ ?_
  refine v_lshl F dL_law_1277 ?_
  refine v_aload_n F dL_law_1278 rfl rfl ?_
  refine v_iload_n F dL_law_1279 rfl rfl ?_
  refine v_iconst F dL_law_1280 ⟨by decide, by decide⟩ ?_
  refine v_iadd F dL_law_1281 ?_
  refine v_nI (x := i + 3) (w32_id (by unfold in32; omega)).symm ?_
  refine v_xald (n := n) (f := f) F dL_law_1282 (by decide) hT (by omega) (hf _) ?_
  refine v_i2l F dL_law_1283 ?_
  refine v_ldc2 (n := 4294967295) F dL_law_1284 q3901 rfl ⟨by decide, by decide⟩ ?_
  refine v_land F dL_law_1287 ?_
  refine v_lor F dL_law_1288 ?_
  refine v_callVv (c := 11) F dL_law_1289 cv_L_137 rfl (PB.ob hq1 hX1 (Nat.le_of_ble_eq_true rfl)) (Nat.le_of_ble_eq_true rfl) rfl (vm_X11_lots hq1 hc2) rfl ⟨(Nat.le_of_ble_eq_true rfl), (Nat.le_of_ble_eq_true rfl), Nat.le_trans (show _ ≤ kc + 7 by omega) r1, Nat.le_trans (show _ ≤ ks + 82 by omega) r2, (Nat.le_of_ble_eq_true rfl)⟩ ?_
  refine v_icmp_eq F dL_law_1292 rfl (fun _ => ?_) (fun h => absurd rfl h)
  refine v_fact fun hv2 hX2 _ _ => ?_
  exact v_widen (show _ ≤ kc + 7 by omega) (show _ ≤ ks + 82 by omega) (kk _ _ hp1 hq1 (h4 hv2 hX2))
theorem lc_29 {w : Wd} {l : Launch} {G : Cx} {Q : State → Prop} {d m : Dt} {kc ks : Nat} {n i : Int} {f : Int → Int} {I : Dt → Dt → Prop} (F : Fx w G code R_law 4 ret room_1) (hT : va_T .int (w.2.1 (-1)) n.toNat (fun j => .int (Int32.ofInt (f j))) (fun q => w.1.size ≤ q) G.2.2.2.1 w.1) (hf : ∀ j, in32 (f j)) (hi : 0 ≤ i ∧ i + 6 ≤ n ∧ n ≤ 384) (hp : PB m 1 0) (hq : PB m 1545 11) (r1 : kc + 7 ≤ room_1.cells) (r2 : ks + 82 ≤ room_1.slots)
    (hs : ∃ d1 m1 r, opX 29 d m (f (i + 1)) (f (i + 2)) (f (i + 3)) (f (i + 4)) (f (i + 5)) = some (d1, m1, r) ∧ PB m1 1 0 ∧ PB m1 1545 11 ∧ (VT w d1 m1 → WF d1 m1 → ∃ d2, opM 29 d1 (f (i + 1)) (f (i + 2)) (f (i + 3)) (f (i + 4)) (f (i + 5)) = some (d2, r) ∧ (VT w d2 m1 → WF d2 m1 → I d2 m1)))
    (kk : ∀ d2 m1, PB m1 1 0 → PB m1 1545 11 → I d2 m1 → V w l WF G Q d2 m1 (kc + 7) (ks + 82) 2206 [mA (-1), mA 1, mA 1545, mI i] []) : V w l WF G Q d m kc ks 1297 [mA (-1), mA 1, mA 1545, mI i] [] := by
  obtain ⟨d1, m1, r, h1, hp1, hq1, h2⟩ := hs
  refine v_fact fun hv hX _ _ => ?_
  have hc : fX0_station d = some (d1, r) ∧ m = m1 := opx_w h1
  obtain ⟨hc, rfl⟩ := hc
  refine v_aload_n F dL_law_1297 rfl rfl ?_
  refine v_callVv (c := 0) F dL_law_1298 cv_L_138 rfl (PB.ob hp hX (Nat.le_of_ble_eq_true rfl)) (Nat.le_of_ble_eq_true rfl) rfl (vm_X0_station hp hc) rfl ⟨(Nat.le_of_ble_eq_true rfl), (Nat.le_of_ble_eq_true rfl), Nat.le_trans (show _ ≤ kc + 7 by omega) r1, Nat.le_trans (show _ ≤ ks + 82 by omega) r2, (Nat.le_of_ble_eq_true rfl)⟩ ?_
  refine v_fact fun hv1 hX1 _ _ => ?_
  obtain ⟨d2, h3, h4⟩ := h2 hv1 hX1
  have hc2 : fX11_station d1 = some (d2, r) := h3
  refine v_aload_n F dL_law_1301 rfl rfl ?_
  refine v_callVv (c := 11) F dL_law_1302 cv_L_141 rfl (PB.ob hq1 hX1 (Nat.le_of_ble_eq_true rfl)) (Nat.le_of_ble_eq_true rfl) rfl (vm_X11_station hq1 hc2) rfl ⟨(Nat.le_of_ble_eq_true rfl), (Nat.le_of_ble_eq_true rfl), Nat.le_trans (show _ ≤ kc + 7 by omega) r1, Nat.le_trans (show _ ≤ ks + 82 by omega) r2, (Nat.le_of_ble_eq_true rfl)⟩ ?_
  refine v_icmp_eq F dL_law_1305 rfl (fun _ => ?_) (fun h => absurd rfl h)
  refine v_fact fun hv2 hX2 _ _ => ?_
  exact v_widen (show _ ≤ kc + 7 by omega) (show _ ≤ ks + 82 by omega) (kk _ _ hp1 hq1 (h4 hv2 hX2))
