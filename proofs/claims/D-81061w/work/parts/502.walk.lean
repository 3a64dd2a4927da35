set_option maxRecDepth 100000
set_option maxHeartbeats 4000000
def fX11_takeDays_5P (w : Wd) (l : Launch) (G : Cx) (Q : State → Prop) (m : Dt) (s : Dt × Int × Int) : Prop := V w l WF G Q s.1 m 0 0 5 [mA 1545, mI (s.2.1), mI (s.2.2)] []
theorem fX11_takeDays_50_ok {w : Wd} {l : Launch} {G : Cx} {d m dd : Dt} {v2 : Int} {d' : Dt} {r : Int} {x : ((Dt × Int × Int) ⊕ (Dt × Int))} (F : Fx w G cX11_takeDays RX11 3 (some .boolean) { frames := 9, cells := 0, slots := 0, locals := 196 }) (hX : WF dd m) (hp : PB m 1545 11) (h : fX11_takeDays_50 d v2 = some x) (K : (Sum.elim (fX11_takeDays_5P w l G (QM w G WF (some (mI r)) d' m 0 0) m) (fun q => q = (d', r))) x) : V w l WF G (QM w G WF (some (mI r)) d' m 0 0) d m 0 0 50 [mA 1545, mU, mI v2] [] := by
  unfold fX11_takeDays_50 at h
  refine v_aload_n F dX11_takeDays_50 rfl rfl ?_
  refine gf_X11_255 F dX11_takeDays_51 hp ?_
  obtain ⟨x8, ex8, h⟩ := lv_some h
  refine v_nI ex8 ?_
  refine v_istore_n F dX11_takeDays_54 rfl (Nat.le_of_ble_eq_true rfl) (L' := [mA 1545, mI x8, mI v2]) rfl ?_
  refine v_aload_n F dX11_takeDays_55 rfl rfl ?_
  refine gf_X11_281 F dX11_takeDays_56 hp (v := 1576) rfl ?_
  refine v_iload_n F dX11_takeDays_59 rfl rfl ?_
  refine v_aload_n F dX11_takeDays_60 rfl rfl ?_
  refine gf_X11_255 F dX11_takeDays_61 hp ?_
  obtain ⟨hi9, h⟩ := ck_some h
  obtain ⟨d10, ed10, h⟩ := sd_some h
  refine v_iast F dX11_takeDays_64 (ar_X11_43 hX hp) hi9 ?_
  refine v_nD ed10 ?_
  obtain ⟨x11, ex11, h⟩ := lv_some h
  refine v_iincN F dX11_takeDays_65 (Nat.le_of_ble_eq_true rfl) rfl ex11 (L' := [mA 1545, mI x8, mI x11]) rfl ?_
  refine v_goto F dX11_takeDays_68 rfl ?_
  cases h
  exact K
theorem fX11_takeDays_25_ok {w : Wd} {l : Launch} {G : Cx} {d m dd : Dt} {v1 v2 : Int} {d' : Dt} {r : Int} {x : ((Dt × Int × Int) ⊕ (Dt × Int))} (F : Fx w G cX11_takeDays RX11 3 (some .boolean) { frames := 9, cells := 0, slots := 0, locals := 196 }) (hX : WF dd m) (hp : PB m 1545 11) (h : fX11_takeDays_25 d v1 v2 = some x) (K : (Sum.elim (fX11_takeDays_5P w l G (QM w G WF (some (mI r)) d' m 0 0) m) (fun q => q = (d', r))) x) : V w l WF G (QM w G WF (some (mI r)) d' m 0 0) d m 0 0 25 [mA 1545, mI v1, mI v2] [] := by
  unfold fX11_takeDays_25 at h
  refine v_aload_n F dX11_takeDays_25 rfl rfl ?_
  obtain ⟨d3, x5, hc4, h⟩ := b2_some h
  refine v_callVv (c := 11) F dX11_takeDays_26 cv_X11_307 rfl (PB.ob hp hX (Nat.le_of_ble_eq_true rfl)) (Nat.le_of_ble_eq_true rfl) rfl (vm_X11_takeTime hp hc4) rfl (rOk.of rfl) ?_
  refine v_if_ne F dX11_takeDays_29 rfl (fun hq6 => ?_) (fun hq6 => ?_)
  · rw [if_neg hq6] at h
    refine v_aload_n F dX11_takeDays_34 rfl rfl ?_
    refine gf_X11_255 F dX11_takeDays_35 hp ?_
    refine v_iload_n F dX11_takeDays_38 rfl rfl ?_
    refine v_icmp_ge F dX11_takeDays_39 rfl (fun hq7 => ?_) (fun hq7 => ?_)
    · rw [if_pos hq7] at h
      refine v_fgt (L' := [mA 1545, mU, mI v2]) ⟨Or.inl rfl, Or.inr rfl, Or.inl rfl, trivial⟩ ?_
      exact fX11_takeDays_50_ok F hX hp h K
    · rw [if_neg hq7] at h
      refine v_aload_n F dX11_takeDays_42 rfl rfl ?_
      refine v_aload_n F dX11_takeDays_43 rfl rfl ?_
      refine gf_X11_252 F dX11_takeDays_44 hp ?_
      obtain ⟨d12, hc13, h⟩ := bd_some h
      refine v_callV0 (c := 11) F dX11_takeDays_47 cv_X11_224 rfl (PB.ob hp hX (Nat.le_of_ble_eq_true rfl)) (Nat.le_of_ble_eq_true rfl) rfl (vm_X11_blame hp hc13) rfl (rOk.of rfl) ?_
      refine v_fgt (L' := [mA 1545, mU, mI v2]) ⟨Or.inl rfl, Or.inr rfl, Or.inl rfl, trivial⟩ ?_
      exact fX11_takeDays_50_ok F hX hp h K
  · rw [if_pos hq6] at h
    obtain ⟨z, hu, ez⟩ := up_some h
    clear h
    subst ez
    have h := hu
    clear hu
    refine v_iconst F dX11_takeDays_32 ⟨by decide, by decide⟩ ?_
    cases h
    cases (show _ = (d', r) from K)
    exact v_zret F (Or.inl rfl) dX11_takeDays_33
theorem fX11_takeDays_5f_ok {w : Wd} {l : Launch} {G : Cx} {m dd : Dt} {d' : Dt} {r : Int} {s : Dt × Int × Int} {x : ((Dt × Int × Int) ⊕ (Dt × Int))} (F : Fx w G cX11_takeDays RX11 3 (some .boolean) { frames := 9, cells := 0, slots := 0, locals := 196 }) (hX : WF dd m) (hp : PB m 1545 11) (h : fX11_takeDays_5f s = some x) (K : (Sum.elim (fX11_takeDays_5P w l G (QM w G WF (some (mI r)) d' m 0 0) m) (fun q => q = (d', r))) x) : V w l WF G (QM w G WF (some (mI r)) d' m 0 0) s.1 m 0 0 5 [mA 1545, mI (s.2.1), mI (s.2.2)] [] := by
  obtain ⟨d, v1, v2⟩ := s
  unfold fX11_takeDays_5f at h
  dsimp only at h
  refine v_iload_n F dX11_takeDays_5 rfl rfl ?_
  refine v_iconst F dX11_takeDays_6 ⟨by decide, by decide⟩ ?_
  refine v_icmp_ge F dX11_takeDays_7 rfl (fun hq1 => ?_) (fun hq1 => ?_)
  · rw [if_pos hq1] at h
    obtain ⟨z, hu, ez⟩ := up_some h
    clear h
    subst ez
    have h := hu
    clear hu
    refine v_iconst F dX11_takeDays_71 ⟨by decide, by decide⟩ ?_
    cases h
    cases (show _ = (d', r) from K)
    exact v_zret F (Or.inr rfl) dX11_takeDays_72
  · rw [if_neg hq1] at h
    refine v_iload_n F dX11_takeDays_10 rfl rfl ?_
    refine v_if_le F dX11_takeDays_11 rfl (fun hq2 => ?_) (fun hq2 => ?_)
    · rw [if_pos hq2] at h
      exact fX11_takeDays_25_ok F hX hp h K
    · rw [if_neg hq2] at h
      refine v_aload_n F dX11_takeDays_14 rfl rfl ?_
      refine v_bipush F dX11_takeDays_15 rfl ⟨by decide, by decide⟩ ?_
      obtain ⟨d14, x16, hc15, h⟩ := b2_some h
      refine v_callVv (c := 11) F dX11_takeDays_17 cv_X11_275 rfl (PB.ob hp hX (Nat.le_of_ble_eq_true rfl)) (Nat.le_of_ble_eq_true rfl) rfl (vm_X11_takeSign hp hc15) rfl (rOk.of rfl) ?_
      refine v_if_ne F dX11_takeDays_20 rfl (fun hq17 => ?_) (fun hq17 => ?_)
      · rw [if_neg hq17] at h
        exact fX11_takeDays_25_ok F hX hp h K
      · rw [if_pos hq17] at h
        obtain ⟨z, hu, ez⟩ := up_some h
        clear h
        subst ez
        have h := hu
        clear hu
        refine v_iconst F dX11_takeDays_23 ⟨by decide, by decide⟩ ?_
        cases h
        cases (show _ = (d', r) from K)
        exact v_zret F (Or.inl rfl) dX11_takeDays_24
theorem fX11_takeDays_5_ok {w : Wd} {l : Launch} {G : Cx} {d m dd : Dt} {v1 v2 : Int} {d' : Dt} {r : Int} {x : (Dt × Int)} (F : Fx w G cX11_takeDays RX11 3 (some .boolean) { frames := 9, cells := 0, slots := 0, locals := 196 }) (hX : WF dd m) (hp : PB m 1545 11) (h : fX11_takeDays_5 d v1 v2 = some x) (K : (fun q => q = (d', r)) x) : V w l WF G (QM w G WF (some (mI r)) d' m 0 0) d m 0 0 5 [mA 1545, mI v1, mI v2] [] := by
  unfold fX11_takeDays_5 at h
  exact loop_ok (P := fX11_takeDays_5P w l G (QM w G WF (some (mI r)) d' m 0 0) m) (fun s x hx h1 h2 => fX11_takeDays_5f_ok F hX hp hx (by
    cases x with
    | inl s' => exact h1 s' rfl
    | inr z => cases h2 z rfl; exact K)) h
theorem vm_X11_takeDays {w : Wd} {l : Launch} {d m : Dt} {d' : Dt} {r : Int} (hp : PB m 1545 11) (h : fX11_takeDays d = some (d', r)) : VM w l WF yX11_takeDays cX11_takeDays 3 (some .boolean) 9 196 0 0 d m [mA 1545] (some (mI r)) d' m := by
  obtain ⟨x, h, K⟩ : ∃ x, fX11_takeDays d = some x ∧ x = (d', r) := ⟨_, h, rfl⟩
  refine VM.of (L := [mA 1545, mU, mU]) (by decide +kernel) rfl (Nat.le_of_ble_eq_true rfl) fun G F _ => v_fact fun _ hX _ _ => ?_
  unfold fX11_takeDays at h
  refine v_ldc (n := (-2147483648)) F dX11_takeDays_0 q2483 rfl ⟨by decide, by decide⟩ ?_
  refine v_istore_n F dX11_takeDays_2 rfl (Nat.le_of_ble_eq_true rfl) (L' := [mA 1545, mI (-2147483648), mU]) rfl ?_
  refine v_iconst F dX11_takeDays_3 ⟨by decide, by decide⟩ ?_
  refine v_istore_n F dX11_takeDays_4 rfl (Nat.le_of_ble_eq_true rfl) (L' := [mA 1545, mI (-2147483648), mI 0]) rfl ?_
  exact fX11_takeDays_5_ok F hX hp h K
theorem vm_X11_addStep {w : Wd} {l : Launch} {d m : Dt} {a1 a2 : Int} {d' : Dt} (hp : PB m 1545 11) (h : fX11_addStep d a1 a2 = some d') : VM w l WF yX11_addStep cX11_addStep 3 none 0 0 0 0 d m [mA 1545, mI a1, mI a2] none d' m := by
  obtain ⟨x, h, K⟩ : ∃ x, fX11_addStep d a1 a2 = some x ∧ x = d' := ⟨_, h, rfl⟩
  refine VM.of (L := [mA 1545, mI a1, mI a2]) (by decide +kernel) rfl (Nat.le_of_ble_eq_true rfl) fun G F _ => v_fact fun _ hX _ _ => ?_
  unfold fX11_addStep at h
  refine v_aload_n F dX11_addStep_0 rfl rfl ?_
  refine gf_X11_287 F dX11_addStep_1 hp (v := 1569) rfl ?_
  refine v_sipush F dX11_addStep_4 rfl ⟨by decide, by decide⟩ ?_
  refine v_iload_n F dX11_addStep_7 rfl rfl ?_
  refine v_imul F dX11_addStep_8 ?_
  refine v_aload_n F dX11_addStep_9 rfl rfl ?_
  refine gf_X11_290 F dX11_addStep_10 hp (v := 1570) rfl ?_
  refine v_iload_n F dX11_addStep_13 rfl rfl ?_
  obtain ⟨hi1, h⟩ := ck_some h
  refine v_iald F dX11_addStep_14 (ar_X11_37 hX hp) hi1 ?_
  refine v_iadd F dX11_addStep_15 ?_
  refine v_iload_n F dX11_addStep_16 rfl rfl ?_
  obtain ⟨x2, ex2, h⟩ := lv_some h
  refine v_n2 ex2 ?_
  obtain ⟨hi3, h⟩ := ck_some h
  obtain ⟨d4, ed4, h⟩ := sd_some h
  refine v_iast F dX11_addStep_17 (ar_X11_36 hX hp) hi3 ?_
  refine v_nD ed4 ?_
  refine v_aload_n F dX11_addStep_18 rfl rfl ?_
  refine gf_X11_290 F dX11_addStep_19 hp (v := 1570) rfl ?_
  refine v_iload_n F dX11_addStep_22 rfl rfl ?_
  refine v_dup2_IA F dX11_addStep_23 ?_
  refine v_iald F dX11_addStep_24 (ar_X11_37 hX hp) hi1 ?_
  refine v_iconst F dX11_addStep_25 ⟨by decide, by decide⟩ ?_
  refine v_iadd F dX11_addStep_26 ?_
  obtain ⟨d5, ed5, h⟩ := sd_some h
  refine v_iast F dX11_addStep_27 (ar_X11_37 hX hp) hi1 ?_
  refine v_nD ed5 ?_
  cases h
  cases (show _ = d' from K)
  exact v_vret F dX11_addStep_28
theorem vm_X11_takeWithin {w : Wd} {l : Launch} {d m : Dt} {a1 a2 : Int} {d' : Dt} {r : Int} (hp : PB m 1545 11) (h : fX11_takeWithin d a1 a2 = some (d', r)) : VM w l WF yX11_takeWithin cX11_takeWithin 3 (some .boolean) 3 62 0 0 d m [mA 1545, mI a1, mI a2] (some (mI r)) d' m := by
  obtain ⟨x, h, K⟩ : ∃ x, fX11_takeWithin d a1 a2 = some x ∧ x = (d', r) := ⟨_, h, rfl⟩
  refine VM.of (L := [mA 1545, mI a1, mI a2]) (by decide +kernel) rfl (Nat.le_of_ble_eq_true rfl) fun G F _ => v_fact fun _ hX _ _ => ?_
  unfold fX11_takeWithin at h
  refine v_aload_n F dX11_takeWithin_0 rfl rfl ?_
  obtain ⟨d1, x3, hc2, h⟩ := b2_some h
  refine v_callVv (c := 11) F dX11_takeWithin_1 cv_X11_228 rfl (PB.ob hp hX (Nat.le_of_ble_eq_true rfl)) (Nat.le_of_ble_eq_true rfl) rfl (vm_X11_takeNumber hp hc2) rfl (rOk.of rfl) ?_
  refine v_if_ne F dX11_takeWithin_4 rfl (fun hq4 => ?_) (fun hq4 => ?_)
  · rw [if_neg hq4] at h
    refine v_aload_n F dX11_takeWithin_9 rfl rfl ?_
    refine gf_X11_218 F dX11_takeWithin_10 hp ?_
    refine v_i2l F dX11_takeWithin_13 ?_
    refine v_iload_n F dX11_takeWithin_14 rfl rfl ?_
    refine v_i2l F dX11_takeWithin_15 ?_
    refine v_iload_n F dX11_takeWithin_16 rfl rfl ?_
    refine v_i2l F dX11_takeWithin_17 ?_
    refine v_callSv F dX11_takeWithin_18 cs_X11_13 rfl (vm_X11_in) rfl (rOk.of rfl) ?_
    refine v_if_ne F dX11_takeWithin_21 rfl (fun hq5 => ?_) (fun hq5 => ?_)
    · rw [if_neg hq5] at h
      refine v_iconst F dX11_takeWithin_32 ⟨by decide, by decide⟩ ?_
      cases h
      cases (show _ = (d', r) from K)
      exact v_zret F (Or.inr rfl) dX11_takeWithin_33
    · rw [if_pos hq5] at h
      refine v_aload_n F dX11_takeWithin_24 rfl rfl ?_
      refine v_aload_n F dX11_takeWithin_25 rfl rfl ?_
      refine gf_X11_221 F dX11_takeWithin_26 hp ?_
      obtain ⟨d6, hc7, h⟩ := bd_some h
      refine v_callV0 (c := 11) F dX11_takeWithin_29 cv_X11_224 rfl (PB.ob hp hX (Nat.le_of_ble_eq_true rfl)) (Nat.le_of_ble_eq_true rfl) rfl (vm_X11_blame hp hc7) rfl (rOk.of rfl) ?_
      refine v_iconst F dX11_takeWithin_32 ⟨by decide, by decide⟩ ?_
      cases h
      cases (show _ = (d', r) from K)
      exact v_zret F (Or.inr rfl) dX11_takeWithin_33
  · rw [if_pos hq4] at h
    refine v_iconst F dX11_takeWithin_7 ⟨by decide, by decide⟩ ?_
    cases h
    cases (show _ = (d', r) from K)
    exact v_zret F (Or.inl rfl) dX11_takeWithin_8
theorem fX11_takeTest_215_ok {w : Wd} {l : Launch} {G : Cx} {d m dd : Dt} {a1 v2 v3 v6 v7 v8 : Int} {d' : Dt} {r : Int} {x : (Dt × Int)} (F : Fx w G cX11_takeTest RX11 9 (some .boolean) { frames := 9, cells := 0, slots := 0, locals := 196 }) (hX : WF dd m) (hp : PB m 1545 11) (h : fX11_takeTest_215 d a1 v2 v3 v6 v7 v8 = some x) (K : (fun q => q = (d', r)) x) : V w l WF G (QM w G WF (some (mI r)) d' m 0 0) d m 0 0 215 [mA 1545, mI a1, mI v2, mI v3, mU, mU, mI v6, mI v7, mI v8] [] := by
  unfold fX11_takeTest_215 at h
  refine v_aload_n F dX11_takeTest_215 rfl rfl ?_
  refine gf_X11_310 F dX11_takeTest_216 hp (v := 1571) rfl ?_
  refine v_iconst F dX11_takeTest_219 ⟨by decide, by decide⟩ ?_
  refine v_iload F dX11_takeTest_220 rfl ?_
  refine v_iconst F dX11_takeTest_222 ⟨by decide, by decide⟩ ?_
  refine v_iadd F dX11_takeTest_223 ?_
  obtain ⟨d33, ed33, h⟩ := sd_some h
  refine v_iast F dX11_takeTest_224 (ar_X11_38 hX hp) ⟨by decide, by decide⟩ ?_
  refine v_nD ed33 ?_
  refine v_aload_n F dX11_takeTest_225 rfl rfl ?_
  refine gf_X11_313 F dX11_takeTest_226 hp (v := 1572) rfl ?_
  refine v_iload F dX11_takeTest_229 rfl ?_
  refine v_iload_n F dX11_takeTest_231 rfl rfl ?_
  obtain ⟨hi34, h⟩ := ck_some h
  obtain ⟨d35, ed35, h⟩ := sd_some h
  refine v_iast F dX11_takeTest_232 (ar_X11_39 hX hp) hi34 ?_
  refine v_nD ed35 ?_
  refine v_aload_n F dX11_takeTest_233 rfl rfl ?_
  refine gf_X11_316 F dX11_takeTest_234 hp (v := 1573) rfl ?_
  refine v_iload F dX11_takeTest_237 rfl ?_
  refine v_iload F dX11_takeTest_239 rfl ?_
  obtain ⟨d36, ed36, h⟩ := sd_some h
  refine v_iast F dX11_takeTest_241 (ar_X11_40 hX hp) hi34 ?_
  refine v_nD ed36 ?_
  refine v_aload_n F dX11_takeTest_242 rfl rfl ?_
  refine gf_X11_319 F dX11_takeTest_243 hp (v := 1574) rfl ?_
  refine v_iload F dX11_takeTest_246 rfl ?_
  refine v_iload F dX11_takeTest_248 rfl ?_
  obtain ⟨d37, ed37, h⟩ := sd_some h
  refine v_iast F dX11_takeTest_250 (ar_X11_41 hX hp) hi34 ?_
  refine v_nD ed37 ?_
  refine v_aload_n F dX11_takeTest_251 rfl rfl ?_
  refine gf_X11_322 F dX11_takeTest_252 hp (v := 1575) rfl ?_
  refine v_iload F dX11_takeTest_255 rfl ?_
  refine v_iload_n F dX11_takeTest_257 rfl rfl ?_
  obtain ⟨d38, ed38, h⟩ := sd_some h
  refine v_iast F dX11_takeTest_258 (ar_X11_42 hX hp) hi34 ?_
  refine v_nD ed38 ?_
  refine v_aload_n F dX11_takeTest_259 rfl rfl ?_
  refine v_iload_n F dX11_takeTest_260 rfl rfl ?_
  refine v_iload F dX11_takeTest_261 rfl ?_
  obtain ⟨d39, hc40, h⟩ := bd_some h
  refine v_callV0 (c := 11) F dX11_takeTest_263 cv_X11_325 rfl (PB.ob hp hX (Nat.le_of_ble_eq_true rfl)) (Nat.le_of_ble_eq_true rfl) rfl (vm_X11_addStep hp hc40) rfl (rOk.of rfl) ?_
  refine v_iconst F dX11_takeTest_266 ⟨by decide, by decide⟩ ?_
  cases h
  cases (show _ = (d', r) from K)
  exact v_zret F (Or.inr rfl) dX11_takeTest_267
theorem fX11_takeTest_186_ok {w : Wd} {l : Launch} {G : Cx} {d m dd : Dt} {a1 v2 v3 v6 v7 : Int} {d' : Dt} {r : Int} {x : (Dt × Int)} (F : Fx w G cX11_takeTest RX11 9 (some .boolean) { frames := 9, cells := 0, slots := 0, locals := 196 }) (hX : WF dd m) (hp : PB m 1545 11) (h : fX11_takeTest_186 d a1 v2 v3 v6 v7 = some x) (K : (fun q => q = (d', r)) x) : V w l WF G (QM w G WF (some (mI r)) d' m 0 0) d m 0 0 186 [mA 1545, mI a1, mI v2, mI v3, mU, mU, mI v6, mI v7, mU] [] := by
  unfold fX11_takeTest_186 at h
  refine v_aload_n F dX11_takeTest_186 rfl rfl ?_
  refine gf_X11_310 F dX11_takeTest_187 hp (v := 1571) rfl ?_
  refine v_iconst F dX11_takeTest_190 ⟨by decide, by decide⟩ ?_
  refine v_iald F dX11_takeTest_191 (ar_X11_38 hX hp) ⟨by decide, by decide⟩ ?_
  refine v_bipush F dX11_takeTest_192 rfl ⟨by decide, by decide⟩ ?_
  refine v_callSv F dX11_takeTest_194 cs_X11_179 rfl (vm_J9_min) rfl (rOk.of rfl) ?_
  obtain ⟨x31, ex31, h⟩ := lv_some h
  refine v_nI ex31 ?_
  refine v_istore F dX11_takeTest_197 (Nat.le_of_ble_eq_true rfl) (L' := [mA 1545, mI a1, mI v2, mI v3, mU, mU, mI v6, mI v7, mI x31]) rfl ?_
  refine v_aload_n F dX11_takeTest_199 rfl rfl ?_
  refine gf_X11_310 F dX11_takeTest_200 hp (v := 1571) rfl ?_
  refine v_iconst F dX11_takeTest_203 ⟨by decide, by decide⟩ ?_
  refine v_iald F dX11_takeTest_204 (ar_X11_38 hX hp) ⟨by decide, by decide⟩ ?_
  refine v_bipush F dX11_takeTest_205 rfl ⟨by decide, by decide⟩ ?_
  refine v_icmp_lt F dX11_takeTest_207 rfl (fun hq32 => ?_) (fun hq32 => ?_)
  · rw [if_pos hq32] at h
    exact fX11_takeTest_215_ok F hX hp h K
  · rw [if_neg hq32] at h
    refine v_aload_n F dX11_takeTest_210 rfl rfl ?_
    refine v_iload_n F dX11_takeTest_211 rfl rfl ?_
    obtain ⟨d41, hc42, h⟩ := bd_some h
    refine v_callV0 (c := 11) F dX11_takeTest_212 cv_X11_224 rfl (PB.ob hp hX (Nat.le_of_ble_eq_true rfl)) (Nat.le_of_ble_eq_true rfl) rfl (vm_X11_blame hp hc42) rfl (rOk.of rfl) ?_
    exact fX11_takeTest_215_ok F hX hp h K
theorem fX11_takeTest_136_ok {w : Wd} {l : Launch} {G : Cx} {d m dd : Dt} {a1 v2 v3 v4 s0 : Int} {d' : Dt} {r : Int} {x : (Dt × Int)} (F : Fx w G cX11_takeTest RX11 9 (some .boolean) { frames := 9, cells := 0, slots := 0, locals := 196 }) (hX : WF dd m) (hp : PB m 1545 11) (h : fX11_takeTest_136 d a1 v2 v3 v4 s0 = some x) (K : (fun q => q = (d', r)) x) : V w l WF G (QM w G WF (some (mI r)) d' m 0 0) d m 0 0 136 [mA 1545, mI a1, mI v2, mI v3, mI v4, mU, mU, mU, mU] [mI s0] := by
  unfold fX11_takeTest_136 at h
  refine v_istore F dX11_takeTest_136 (Nat.le_of_ble_eq_true rfl) (L' := [mA 1545, mI a1, mI v2, mI v3, mI v4, mI s0, mU, mU, mU]) rfl ?_
  refine v_aload_n F dX11_takeTest_138 rfl rfl ?_
  refine v_iload F dX11_takeTest_139 rfl ?_
  refine v_iload F dX11_takeTest_141 rfl ?_
  obtain ⟨d22, x24, hc23, h⟩ := b2_some h
  refine v_callVv (c := 11) F dX11_takeTest_143 cv_X11_301 rfl (PB.ob hp hX (Nat.le_of_ble_eq_true rfl)) (Nat.le_of_ble_eq_true rfl) rfl (vm_X11_takeWithin hp hc23) rfl (rOk.of rfl) ?_
  refine v_if_ne F dX11_takeTest_146 rfl (fun hq25 => ?_) (fun hq25 => ?_)
  · rw [if_neg hq25] at h
    refine v_aload_n F dX11_takeTest_151 rfl rfl ?_
    refine gf_X11_218 F dX11_takeTest_152 hp ?_
    obtain ⟨x26, ex26, h⟩ := lv_some h
    refine v_nI ex26 ?_
    refine v_istore F dX11_takeTest_155 (Nat.le_of_ble_eq_true rfl) (L' := [mA 1545, mI a1, mI v2, mI v3, mI v4, mI s0, mI x26, mU, mU]) rfl ?_
    refine v_ldc (n := (-2147483648)) F dX11_takeTest_157 q2483 rfl ⟨by decide, by decide⟩ ?_
    refine v_istore F dX11_takeTest_159 (Nat.le_of_ble_eq_true rfl) (L' := [mA 1545, mI a1, mI v2, mI v3, mI v4, mI s0, mI x26, mI (-2147483648), mU]) rfl ?_
    refine v_aload_n F dX11_takeTest_161 rfl rfl ?_
    refine v_ldsw (tx := "ON") (a := (-50)) F dX11_takeTest_162 (List.mem_of_getElem? (i := 77) rfl) (by decide) ?_
    obtain ⟨d27, x29, hc28, h⟩ := b2_some h
    refine v_callVv (c := 11) F dX11_takeTest_165 cv_X11_249 rfl (PB.ob hp hX (Nat.le_of_ble_eq_true rfl)) (Nat.le_of_ble_eq_true rfl) rfl (vm_X11_mayWord hp (show isSb (-50) = true from rfl) hc28) rfl (rOk.of rfl) ?_
    refine v_if_eq F dX11_takeTest_168 rfl (fun hq30 => ?_) (fun hq30 => ?_)
    · rw [if_pos hq30] at h
      refine v_fgt (L' := [mA 1545, mI a1, mI v2, mI v3, mU, mU, mI x26, mI (-2147483648), mU]) ⟨Or.inl rfl, Or.inl rfl, Or.inl rfl, Or.inl rfl, Or.inr rfl, Or.inr rfl, Or.inl rfl, Or.inl rfl, Or.inl rfl, trivial⟩ ?_
      exact fX11_takeTest_186_ok F hX hp h K
    · rw [if_neg hq30] at h
      refine v_aload_n F dX11_takeTest_171 rfl rfl ?_
      obtain ⟨d43, x45, hc44, h⟩ := b2_some h
      refine v_callVv (c := 11) F dX11_takeTest_172 cv_X11_307 rfl (PB.ob hp hX (Nat.le_of_ble_eq_true rfl)) (Nat.le_of_ble_eq_true rfl) rfl (vm_X11_takeTime hp hc44) rfl (rOk.of rfl) ?_
      refine v_if_ne F dX11_takeTest_175 rfl (fun hq46 => ?_) (fun hq46 => ?_)
      · rw [if_neg hq46] at h
        refine v_aload_n F dX11_takeTest_180 rfl rfl ?_
        refine gf_X11_255 F dX11_takeTest_181 hp ?_
        obtain ⟨x47, ex47, h⟩ := lv_some h
        refine v_nI ex47 ?_
        refine v_istore F dX11_takeTest_184 (Nat.le_of_ble_eq_true rfl) (L' := [mA 1545, mI a1, mI v2, mI v3, mI v4, mI s0, mI x26, mI x47, mU]) rfl ?_
        refine v_fgt (L' := [mA 1545, mI a1, mI v2, mI v3, mU, mU, mI x26, mI x47, mU]) ⟨Or.inl rfl, Or.inl rfl, Or.inl rfl, Or.inl rfl, Or.inr rfl, Or.inr rfl, Or.inl rfl, Or.inl rfl, Or.inl rfl, trivial⟩ ?_
        exact fX11_takeTest_186_ok F hX hp h K
      · rw [if_pos hq46] at h
        refine v_iconst F dX11_takeTest_178 ⟨by decide, by decide⟩ ?_
        cases h
        cases (show _ = (d', r) from K)
        exact v_zret F (Or.inl rfl) dX11_takeTest_179
  · rw [if_pos hq25] at h
    refine v_iconst F dX11_takeTest_149 ⟨by decide, by decide⟩ ?_
    cases h
    cases (show _ = (d', r) from K)
    exact v_zret F (Or.inl rfl) dX11_takeTest_150
theorem fX11_takeTest_97_ok {w : Wd} {l : Launch} {G : Cx} {d m dd : Dt} {a1 v2 v3 s0 : Int} {d' : Dt} {r : Int} {x : (Dt × Int)} (F : Fx w G cX11_takeTest RX11 9 (some .boolean) { frames := 9, cells := 0, slots := 0, locals := 196 }) (hX : WF dd m) (hp : PB m 1545 11) (h : fX11_takeTest_97 d a1 v2 v3 s0 = some x) (K : (fun q => q = (d', r)) x) : V w l WF G (QM w G WF (some (mI r)) d' m 0 0) d m 0 0 97 [mA 1545, mI a1, mI v2, mI v3, mU, mU, mU, mU, mU] [mI s0] := by
  unfold fX11_takeTest_97 at h
  refine v_istore F dX11_takeTest_97 (Nat.le_of_ble_eq_true rfl) (L' := [mA 1545, mI a1, mI v2, mI v3, mI s0, mU, mU, mU, mU]) rfl ?_
  refine v_iload_n F dX11_takeTest_99 rfl rfl ?_
  refine v_if_ne F dX11_takeTest_100 rfl (fun hq19 => ?_) (fun hq19 => ?_)
  · rw [if_neg hq19] at h
    refine v_iload_n F dX11_takeTest_109 rfl rfl ?_
    refine v_iconst F dX11_takeTest_110 ⟨by decide, by decide⟩ ?_
    refine v_icmp_ne F dX11_takeTest_111 rfl (fun hq20 => ?_) (fun hq20 => ?_)
    · rw [if_neg hq20] at h
      refine v_iload_n F dX11_takeTest_120 rfl rfl ?_
      refine v_iconst F dX11_takeTest_121 ⟨by decide, by decide⟩ ?_
      refine v_icmp_ne F dX11_takeTest_122 rfl (fun hq21 => ?_) (fun hq21 => ?_)
      · rw [if_neg hq21] at h
        refine v_bipush F dX11_takeTest_134 rfl ⟨by decide, by decide⟩ ?_
        exact fX11_takeTest_136_ok F hX hp h K
      · rw [if_pos hq21] at h
        refine v_aload_n F dX11_takeTest_125 rfl rfl ?_
        refine gf_X11_61 F dX11_takeTest_126 hp ?_
        refine v_iconst F dX11_takeTest_129 ⟨by decide, by decide⟩ ?_
        refine v_isub F dX11_takeTest_130 ?_
        refine v_goto F dX11_takeTest_131 rfl ?_
        exact fX11_takeTest_136_ok F hX hp h K
    · rw [if_pos hq20] at h
      refine v_sipush F dX11_takeTest_114 rfl ⟨by decide, by decide⟩ ?_
      refine v_goto F dX11_takeTest_117 rfl ?_
      exact fX11_takeTest_136_ok F hX hp h K
  · rw [if_pos hq19] at h
    refine v_sipush F dX11_takeTest_103 rfl ⟨by decide, by decide⟩ ?_
    refine v_goto F dX11_takeTest_106 rfl ?_
    exact fX11_takeTest_136_ok F hX hp h K
theorem fX11_takeTest_67_ok {w : Wd} {l : Launch} {G : Cx} {d m dd : Dt} {a1 v2 s0 : Int} {d' : Dt} {r : Int} {x : (Dt × Int)} (F : Fx w G cX11_takeTest RX11 9 (some .boolean) { frames := 9, cells := 0, slots := 0, locals := 196 }) (hX : WF dd m) (hp : PB m 1545 11) (h : fX11_takeTest_67 d a1 v2 s0 = some x) (K : (fun q => q = (d', r)) x) : V w l WF G (QM w G WF (some (mI r)) d' m 0 0) d m 0 0 67 [mA 1545, mI a1, mI v2, mU, mU, mU, mU, mU, mU] [mI s0] := by
  unfold fX11_takeTest_67 at h
  refine v_istore_n F dX11_takeTest_67 rfl (Nat.le_of_ble_eq_true rfl) (L' := [mA 1545, mI a1, mI v2, mI s0, mU, mU, mU, mU, mU]) rfl ?_
  refine v_iload_n F dX11_takeTest_68 rfl rfl ?_
  refine v_if_ge F dX11_takeTest_69 rfl (fun hq16 => ?_) (fun hq16 => ?_)
  · rw [if_pos hq16] at h
    refine v_aload_n F dX11_takeTest_77 rfl rfl ?_
    refine v_dup_A F dX11_takeTest_78 ?_
    refine gf_X11_188 F dX11_takeTest_79 hp ?_
    refine v_iconst F dX11_takeTest_82 ⟨by decide, by decide⟩ ?_
    refine v_iadd F dX11_takeTest_83 ?_
    obtain ⟨d17, ed17, h⟩ := sd_some h
    refine pf_X11_188 F dX11_takeTest_84 hp ?_
    refine v_nD ed17 ?_
    refine v_iload_n F dX11_takeTest_87 rfl rfl ?_
    refine v_iconst F dX11_takeTest_88 ⟨by decide, by decide⟩ ?_
    refine v_icmp_ne F dX11_takeTest_89 rfl (fun hq18 => ?_) (fun hq18 => ?_)
    · rw [if_neg hq18] at h
      refine v_iconst F dX11_takeTest_96 ⟨by decide, by decide⟩ ?_
      exact fX11_takeTest_97_ok F hX hp h K
    · rw [if_pos hq18] at h
      refine v_iconst F dX11_takeTest_92 ⟨by decide, by decide⟩ ?_
      refine v_goto F dX11_takeTest_93 rfl ?_
      exact fX11_takeTest_97_ok F hX hp h K
  · rw [if_neg hq16] at h
    refine v_aload_n F dX11_takeTest_72 rfl rfl ?_
    obtain ⟨d48, x50, hc49, h⟩ := b2_some h
    refine v_callVv (c := 11) F dX11_takeTest_73 cv_X11_210 rfl (PB.ob hp hX (Nat.le_of_ble_eq_true rfl)) (Nat.le_of_ble_eq_true rfl) rfl (vm_X11_miss hp hc49) rfl (rOk.of rfl) ?_
    obtain ⟨hb, h⟩ := ck_some h
    cases h
    cases (show _ = (d', r) from K)
    exact v_zret F hb dX11_takeTest_76
theorem vm_X11_takeTest {w : Wd} {l : Launch} {d m : Dt} {a1 : Int} {d' : Dt} {r : Int} (hp : PB m 1545 11) (h : fX11_takeTest d a1 = some (d', r)) : VM w l WF yX11_takeTest cX11_takeTest 9 (some .boolean) 9 196 0 0 d m [mA 1545, mI a1] (some (mI r)) d' m := by
  obtain ⟨x, h, K⟩ : ∃ x, fX11_takeTest d a1 = some x ∧ x = (d', r) := ⟨_, h, rfl⟩
  refine VM.of (L := [mA 1545, mI a1, mU, mU, mU, mU, mU, mU, mU]) (by decide +kernel) rfl (Nat.le_of_ble_eq_true rfl) fun G F _ => v_fact fun _ hX _ _ => ?_
  unfold fX11_takeTest at h
  refine v_aload_n F dX11_takeTest_0 rfl rfl ?_
  refine gf_X11_161 F dX11_takeTest_1 hp (v := 1566) rfl ?_
  refine v_aload_n F dX11_takeTest_4 rfl rfl ?_
  refine gf_X11_188 F dX11_takeTest_5 hp ?_
  obtain ⟨x1, ex1, h⟩ := lv_some h
  refine v_nI ex1 ?_
  obtain ⟨hi2, h⟩ := ck_some h
  refine v_iald F dX11_takeTest_8 (ar_X11_25 hX hp) hi2 ?_
  obtain ⟨x3, ex3, h⟩ := lv_some h
  refine v_nI ex3 ?_
  refine v_istore_n F dX11_takeTest_9 rfl (Nat.le_of_ble_eq_true rfl) (L' := [mA 1545, mI a1, mI x3, mU, mU, mU, mU, mU, mU]) rfl ?_
  refine v_aload_n F dX11_takeTest_10 rfl rfl ?_
  refine v_ldsw (tx := "AGE") (a := (-44)) F dX11_takeTest_11 (List.mem_of_getElem? (i := 73) rfl) (by decide) ?_
  obtain ⟨x4, hc5, h⟩ := b1_some h
  refine v_callVv (c := 11) F dX11_takeTest_14 cv_X11_214 rfl (PB.ob hp hX (Nat.le_of_ble_eq_true rfl)) (Nat.le_of_ble_eq_true rfl) rfl (vm_X11_isWord hp (show isSb (-44) = true from rfl) hc5) rfl (rOk.of rfl) ?_
  refine v_if_eq F dX11_takeTest_17 rfl (fun hq6 => ?_) (fun hq6 => ?_)
  · rw [if_pos hq6] at h
    refine v_aload_n F dX11_takeTest_24 rfl rfl ?_
    refine v_ldsw (tx := "LIVED") (a := (-46)) F dX11_takeTest_25 (List.mem_of_getElem? (i := 74) rfl) (by decide) ?_
    obtain ⟨x7, hc8, h⟩ := b1_some h
    refine v_callVv (c := 11) F dX11_takeTest_28 cv_X11_214 rfl (PB.ob hp hX (Nat.le_of_ble_eq_true rfl)) (Nat.le_of_ble_eq_true rfl) rfl (vm_X11_isWord hp (show isSb (-46) = true from rfl) hc8) rfl (rOk.of rfl) ?_
    refine v_if_eq F dX11_takeTest_31 rfl (fun hq9 => ?_) (fun hq9 => ?_)
    · rw [if_pos hq9] at h
      refine v_aload_n F dX11_takeTest_38 rfl rfl ?_
      refine v_ldsw (tx := "IN") (a := (-28)) F dX11_takeTest_39 (List.mem_of_getElem? (i := 75) rfl) (by decide) ?_
      obtain ⟨x10, hc11, h⟩ := b1_some h
      refine v_callVv (c := 11) F dX11_takeTest_42 cv_X11_214 rfl (PB.ob hp hX (Nat.le_of_ble_eq_true rfl)) (Nat.le_of_ble_eq_true rfl) rfl (vm_X11_isWord hp (show isSb (-28) = true from rfl) hc11) rfl (rOk.of rfl) ?_
      refine v_if_eq F dX11_takeTest_45 rfl (fun hq12 => ?_) (fun hq12 => ?_)
      · rw [if_pos hq12] at h
        refine v_aload_n F dX11_takeTest_52 rfl rfl ?_
        refine v_ldsw (tx := "FACT") (a := (-48)) F dX11_takeTest_53 (List.mem_of_getElem? (i := 76) rfl) (by decide) ?_
        obtain ⟨x13, hc14, h⟩ := b1_some h
        refine v_callVv (c := 11) F dX11_takeTest_56 cv_X11_214 rfl (PB.ob hp hX (Nat.le_of_ble_eq_true rfl)) (Nat.le_of_ble_eq_true rfl) rfl (vm_X11_isWord hp (show isSb (-48) = true from rfl) hc14) rfl (rOk.of rfl) ?_
        refine v_if_eq F dX11_takeTest_59 rfl (fun hq15 => ?_) (fun hq15 => ?_)
        · rw [if_pos hq15] at h
          refine v_iconst F dX11_takeTest_66 ⟨by decide, by decide⟩ ?_
          exact fX11_takeTest_67_ok F hX hp h K
        · rw [if_neg hq15] at h
          refine v_iconst F dX11_takeTest_62 ⟨by decide, by decide⟩ ?_
          refine v_goto F dX11_takeTest_63 rfl ?_
          exact fX11_takeTest_67_ok F hX hp h K
      · rw [if_neg hq12] at h
        refine v_iconst F dX11_takeTest_48 ⟨by decide, by decide⟩ ?_
        refine v_goto F dX11_takeTest_49 rfl ?_
        exact fX11_takeTest_67_ok F hX hp h K
    · rw [if_neg hq9] at h
      refine v_iconst F dX11_takeTest_34 ⟨by decide, by decide⟩ ?_
      refine v_goto F dX11_takeTest_35 rfl ?_
      exact fX11_takeTest_67_ok F hX hp h K
  · rw [if_neg hq6] at h
    refine v_iconst F dX11_takeTest_20 ⟨by decide, by decide⟩ ?_
    refine v_goto F dX11_takeTest_21 rfl ?_
    exact fX11_takeTest_67_ok F hX hp h K
def fX11_takeCondition_9P (w : Wd) (l : Launch) (G : Cx) (Q : State → Prop) (m : Dt) (a1 : Int) (s : Dt × Int) : Prop := V w l WF G Q s.1 m 0 0 9 [mA 1545, mI a1, mI (s.2), mU] []
def fX11_takeCondition_99P (w : Wd) (l : Launch) (G : Cx) (Q : State → Prop) (m : Dt) (a1 : Int) (s : Dt × Int) : Prop := V w l WF G Q s.1 m 0 0 99 [mA 1545, mI a1, mI (s.2), mU] []
theorem fX11_takeCondition_187_ok {w : Wd} {l : Launch} {G : Cx} {d m dd : Dt} {a1 v2 s1 s2 : Int} {d' : Dt} {r : Int} {x : ((Dt × Int) ⊕ (Dt × Int))} (F : Fx w G cX11_takeCondition RX11 4 (some .boolean) { frames := 10, cells := 0, slots := 0, locals := 224 }) (hX : WF dd m) (hp : PB m 1545 11) (h : fX11_takeCondition_187 d a1 v2 s1 s2 = some x) (K : (Sum.elim (fX11_takeCondition_9P w l G (QM w G WF (some (mI r)) d' m 0 0) m a1) (fun q => q = (d', r))) x) : V w l WF G (QM w G WF (some (mI r)) d' m 0 0) d m 0 0 187 [mA 1545, mI a1, mI v2, mU] [mI s2, mI s1, mA 1545] := by
  unfold fX11_takeCondition_187 at h
  obtain ⟨d18, hc19, h⟩ := bd_some h
  refine v_callV0 (c := 11) F dX11_takeCondition_187 cv_X11_325 rfl (PB.ob hp hX (Nat.le_of_ble_eq_true rfl)) (Nat.le_of_ble_eq_true rfl) rfl (vm_X11_addStep hp hc19) rfl (rOk.of rfl) ?_
  refine v_aload_n F dX11_takeCondition_190 rfl rfl ?_
  refine v_dup_A F dX11_takeCondition_191 ?_
  refine gf_X11_188 F dX11_takeCondition_192 hp ?_
  refine v_iconst F dX11_takeCondition_195 ⟨by decide, by decide⟩ ?_
  refine v_iadd F dX11_takeCondition_196 ?_
  obtain ⟨d20, ed20, h⟩ := sd_some h
  refine pf_X11_188 F dX11_takeCondition_197 hp ?_
  refine v_nD ed20 ?_
  refine v_goto F dX11_takeCondition_200 rfl ?_
  cases h
  exact K
theorem fX11_takeCondition_174_ok {w : Wd} {l : Launch} {G : Cx} {d m dd : Dt} {a1 v2 v3 : Int} {d' : Dt} {r : Int} {x : ((Dt × Int) ⊕ (Dt × Int))} (F : Fx w G cX11_takeCondition RX11 4 (some .boolean) { frames := 10, cells := 0, slots := 0, locals := 224 }) (hX : WF dd m) (hp : PB m 1545 11) (h : fX11_takeCondition_174 d a1 v2 v3 = some x) (K : (Sum.elim (fX11_takeCondition_9P w l G (QM w G WF (some (mI r)) d' m 0 0) m a1) (fun q => q = (d', r))) x) : V w l WF G (QM w G WF (some (mI r)) d' m 0 0) d m 0 0 174 [mA 1545, mI a1, mI v2, mI v3] [] := by
  unfold fX11_takeCondition_174 at h
  refine v_aload_n F dX11_takeCondition_174 rfl rfl ?_
  refine v_iload_n F dX11_takeCondition_175 rfl rfl ?_
  refine v_iload_n F dX11_takeCondition_176 rfl rfl ?_
  refine v_if_eq F dX11_takeCondition_177 rfl (fun hq17 => ?_) (fun hq17 => ?_)
  · rw [if_pos hq17] at h
    refine v_bipush F dX11_takeCondition_185 rfl ⟨by decide, by decide⟩ ?_
    refine v_fgt (L' := [mA 1545, mI a1, mI v2, mU]) ⟨Or.inl rfl, Or.inl rfl, Or.inl rfl, Or.inr rfl, trivial⟩ ?_
    exact fX11_takeCondition_187_ok F hX hp h K
  · rw [if_neg hq17] at h
    refine v_bipush F dX11_takeCondition_180 rfl ⟨by decide, by decide⟩ ?_
    refine v_goto F dX11_takeCondition_182 rfl ?_
    refine v_fgt (L' := [mA 1545, mI a1, mI v2, mU]) ⟨Or.inl rfl, Or.inl rfl, Or.inl rfl, Or.inr rfl, trivial⟩ ?_
    exact fX11_takeCondition_187_ok F hX hp h K
theorem fX11_takeCondition_135_ok {w : Wd} {l : Launch} {G : Cx} {d m dd : Dt} {a1 v2 : Int} {d' : Dt} {r : Int} {x : ((Dt × Int) ⊕ (Dt × Int))} (F : Fx w G cX11_takeCondition RX11 4 (some .boolean) { frames := 10, cells := 0, slots := 0, locals := 224 }) (hX : WF dd m) (hp : PB m 1545 11) (h : fX11_takeCondition_135 d a1 v2 = some x) (K : (Sum.elim (fX11_takeCondition_9P w l G (QM w G WF (some (mI r)) d' m 0 0) m a1) (fun q => q = (d', r))) x) : V w l WF G (QM w G WF (some (mI r)) d' m 0 0) d m 0 0 135 [mA 1545, mI a1, mI v2, mU] [] := by
  unfold fX11_takeCondition_135 at h
  refine v_aload_n F dX11_takeCondition_135 rfl rfl ?_
  refine v_ldsw (tx := "AND") (a := (-40)) F dX11_takeCondition_136 (List.mem_of_getElem? (i := 78) rfl) (by decide) ?_
  obtain ⟨x14, hc15, h⟩ := b1_some h
  refine v_callVv (c := 11) F dX11_takeCondition_139 cv_X11_214 rfl (PB.ob hp hX (Nat.le_of_ble_eq_true rfl)) (Nat.le_of_ble_eq_true rfl) rfl (vm_X11_isWord hp (show isSb (-40) = true from rfl) hc15) rfl (rOk.of rfl) ?_
  refine v_istore_n F dX11_takeCondition_142 rfl (Nat.le_of_ble_eq_true rfl) (L' := [mA 1545, mI a1, mI v2, mI x14]) rfl ?_
  refine v_iload_n F dX11_takeCondition_143 rfl rfl ?_
  refine v_if_ne F dX11_takeCondition_144 rfl (fun hq16 => ?_) (fun hq16 => ?_)
  · rw [if_neg hq16] at h
    exact fX11_takeCondition_174_ok F hX hp h K
  · rw [if_pos hq16] at h
    refine v_aload_n F dX11_takeCondition_147 rfl rfl ?_
    refine v_ldsw (tx := "OR") (a := (-38)) F dX11_takeCondition_148 (List.mem_of_getElem? (i := 79) rfl) (by decide) ?_
    obtain ⟨x21, hc22, h⟩ := b1_some h
    refine v_callVv (c := 11) F dX11_takeCondition_151 cv_X11_214 rfl (PB.ob hp hX (Nat.le_of_ble_eq_true rfl)) (Nat.le_of_ble_eq_true rfl) rfl (vm_X11_isWord hp (show isSb (-38) = true from rfl) hc22) rfl (rOk.of rfl) ?_
    refine v_if_ne F dX11_takeCondition_154 rfl (fun hq23 => ?_) (fun hq23 => ?_)
    · rw [if_neg hq23] at h
      exact fX11_takeCondition_174_ok F hX hp h K
    · rw [if_pos hq23] at h
      obtain ⟨z, hu, ez⟩ := up_some h
      clear h
      subst ez
      have h := hu
      clear hu
      refine v_iload_n F dX11_takeCondition_157 rfl rfl ?_
      refine v_if_eq F dX11_takeCondition_158 rfl (fun hq24 => ?_) (fun hq24 => ?_)
      · rw [if_pos hq24] at h
        refine v_iconst F dX11_takeCondition_168 ⟨by decide, by decide⟩ ?_
        refine v_goto F dX11_takeCondition_169 rfl ?_
        cases h
        cases (show _ = (d', r) from K)
        exact v_zret F (Or.inr rfl) dX11_takeCondition_173
      · rw [if_neg hq24] at h
        refine v_aload_n F dX11_takeCondition_161 rfl rfl ?_
        obtain ⟨d25, x27, hc26, h⟩ := b2_some h
        refine v_callVv (c := 11) F dX11_takeCondition_162 cv_X11_210 rfl (PB.ob hp hX (Nat.le_of_ble_eq_true rfl)) (Nat.le_of_ble_eq_true rfl) rfl (vm_X11_miss hp hc26) rfl (rOk.of rfl) ?_
        refine v_if_eq F dX11_takeCondition_165 rfl (fun hq28 => ?_) (fun hq28 => ?_)
        · rw [if_pos hq28] at h
          refine v_iconst F dX11_takeCondition_172 ⟨by decide, by decide⟩ ?_
          cases h
          cases (show _ = (d', r) from K)
          exact v_zret F (Or.inl rfl) dX11_takeCondition_173
        · rw [if_neg hq28] at h
          refine v_iconst F dX11_takeCondition_168 ⟨by decide, by decide⟩ ?_
          refine v_goto F dX11_takeCondition_169 rfl ?_
          cases h
          cases (show _ = (d', r) from K)
          exact v_zret F (Or.inr rfl) dX11_takeCondition_173
theorem fX11_takeCondition_99f_ok {w : Wd} {l : Launch} {G : Cx} {m dd : Dt} {a1 : Int} {d' : Dt} {r : Int} {s : Dt × Int} {x : ((Dt × Int) ⊕ ((Dt × Int) ⊕ (Dt × Int)))} (F : Fx w G cX11_takeCondition RX11 4 (some .boolean) { frames := 10, cells := 0, slots := 0, locals := 224 }) (hX : WF dd m) (hp : PB m 1545 11) (h : fX11_takeCondition_99f a1 s = some x) (K : (Sum.elim (fX11_takeCondition_99P w l G (QM w G WF (some (mI r)) d' m 0 0) m a1) (Sum.elim (fX11_takeCondition_9P w l G (QM w G WF (some (mI r)) d' m 0 0) m a1) (fun q => q = (d', r)))) x) : V w l WF G (QM w G WF (some (mI r)) d' m 0 0) s.1 m 0 0 99 [mA 1545, mI a1, mI (s.2), mU] [] := by
  obtain ⟨d, v2⟩ := s
  unfold fX11_takeCondition_99f at h
  dsimp only at h
  refine v_iload_n F dX11_takeCondition_99 rfl rfl ?_
  refine v_if_le F dX11_takeCondition_100 rfl (fun hq13 => ?_) (fun hq13 => ?_)
  · rw [if_pos hq13] at h
    obtain ⟨z, hu, ez⟩ := up_some h
    clear h
    subst ez
    have h := hu
    clear hu
    exact fX11_takeCondition_135_ok F hX hp h K
  · rw [if_neg hq13] at h
    refine v_aload_n F dX11_takeCondition_103 rfl rfl ?_
    refine v_bipush F dX11_takeCondition_104 rfl ⟨by decide, by decide⟩ ?_
    obtain ⟨x29, hc30, h⟩ := b1_some h
    refine v_callVv (c := 11) F dX11_takeCondition_106 cv_X11_207 rfl (PB.ob hp hX (Nat.le_of_ble_eq_true rfl)) (Nat.le_of_ble_eq_true rfl) rfl (vm_X11_isSign hp hc30) rfl (rOk.of rfl) ?_
    refine v_if_eq F dX11_takeCondition_109 rfl (fun hq31 => ?_) (fun hq31 => ?_)
    · rw [if_pos hq31] at h
      obtain ⟨z, hu, ez⟩ := up_some h
      clear h
      subst ez
      have h := hu
      clear hu
      exact fX11_takeCondition_135_ok F hX hp h K
    · rw [if_neg hq31] at h
      refine v_aload_n F dX11_takeCondition_112 rfl rfl ?_
      refine v_iload_n F dX11_takeCondition_113 rfl rfl ?_
      refine v_bipush F dX11_takeCondition_114 rfl ⟨by decide, by decide⟩ ?_
      obtain ⟨d32, hc33, h⟩ := bd_some h
      refine v_callV0 (c := 11) F dX11_takeCondition_116 cv_X11_325 rfl (PB.ob hp hX (Nat.le_of_ble_eq_true rfl)) (Nat.le_of_ble_eq_true rfl) rfl (vm_X11_addStep hp hc33) rfl (rOk.of rfl) ?_
      obtain ⟨x34, ex34, h⟩ := lv_some h
      refine v_iincN F dX11_takeCondition_119 (Nat.le_of_ble_eq_true rfl) rfl ex34 (L' := [mA 1545, mI a1, mI x34, mU]) rfl ?_
      refine v_aload_n F dX11_takeCondition_122 rfl rfl ?_
      refine v_dup_A F dX11_takeCondition_123 ?_
      refine gf_X11_188 F dX11_takeCondition_124 hp ?_
      refine v_iconst F dX11_takeCondition_127 ⟨by decide, by decide⟩ ?_
      refine v_iadd F dX11_takeCondition_128 ?_
      obtain ⟨d35, ed35, h⟩ := sd_some h
      refine pf_X11_188 F dX11_takeCondition_129 hp ?_
      refine v_nD ed35 ?_
      refine v_goto F dX11_takeCondition_132 rfl ?_
      cases h
      exact K
theorem fX11_takeCondition_99_ok {w : Wd} {l : Launch} {G : Cx} {d m dd : Dt} {a1 v2 : Int} {d' : Dt} {r : Int} {x : ((Dt × Int) ⊕ (Dt × Int))} (F : Fx w G cX11_takeCondition RX11 4 (some .boolean) { frames := 10, cells := 0, slots := 0, locals := 224 }) (hX : WF dd m) (hp : PB m 1545 11) (h : fX11_takeCondition_99 d a1 v2 = some x) (K : (Sum.elim (fX11_takeCondition_9P w l G (QM w G WF (some (mI r)) d' m 0 0) m a1) (fun q => q = (d', r))) x) : V w l WF G (QM w G WF (some (mI r)) d' m 0 0) d m 0 0 99 [mA 1545, mI a1, mI v2, mU] [] := by
  unfold fX11_takeCondition_99 at h
  exact loop_ok (P := fX11_takeCondition_99P w l G (QM w G WF (some (mI r)) d' m 0 0) m a1) (fun s x hx h1 h2 => fX11_takeCondition_99f_ok F hX hp hx (by
    cases x with
    | inl s' => exact h1 s' rfl
    | inr z => cases h2 z rfl; exact K)) h
theorem fX11_takeCondition_69_ok {w : Wd} {l : Launch} {G : Cx} {d m dd : Dt} {a1 v2 : Int} {d' : Dt} {r : Int} {x : ((Dt × Int) ⊕ (Dt × Int))} (F : Fx w G cX11_takeCondition RX11 4 (some .boolean) { frames := 10, cells := 0, slots := 0, locals := 224 }) (hX : WF dd m) (hp : PB m 1545 11) (h : fX11_takeCondition_69 d a1 v2 = some x) (K : (Sum.elim (fX11_takeCondition_9P w l G (QM w G WF (some (mI r)) d' m 0 0) m a1) (fun q => q = (d', r))) x) : V w l WF G (QM w G WF (some (mI r)) d' m 0 0) d m 0 0 69 [mA 1545, mI a1, mI v2, mU] [] := by
  unfold fX11_takeCondition_69 at h
  refine v_aload_n F dX11_takeCondition_69 rfl rfl ?_
  refine v_iload_n F dX11_takeCondition_70 rfl rfl ?_
  refine v_bipush F dX11_takeCondition_71 rfl ⟨by decide, by decide⟩ ?_
  obtain ⟨d38, hc39, h⟩ := bd_some h
  refine v_callV0 (c := 11) F dX11_takeCondition_73 cv_X11_325 rfl (PB.ob hp hX (Nat.le_of_ble_eq_true rfl)) (Nat.le_of_ble_eq_true rfl) rfl (vm_X11_addStep hp hc39) rfl (rOk.of rfl) ?_
  refine v_aload_n F dX11_takeCondition_76 rfl rfl ?_
  refine v_dup_A F dX11_takeCondition_77 ?_
  refine gf_X11_188 F dX11_takeCondition_78 hp ?_
  refine v_iconst F dX11_takeCondition_81 ⟨by decide, by decide⟩ ?_
  refine v_iadd F dX11_takeCondition_82 ?_
  obtain ⟨d40, ed40, h⟩ := sd_some h
  refine pf_X11_188 F dX11_takeCondition_83 hp ?_
  refine v_nD ed40 ?_
  refine v_goto F dX11_takeCondition_86 rfl ?_
  cases h
  exact K
theorem fX11_takeCondition_9f_ok {w : Wd} {l : Launch} {G : Cx} {m dd : Dt} {a1 : Int} {d' : Dt} {r : Int} {s : Dt × Int} {x : ((Dt × Int) ⊕ (Dt × Int))} (F : Fx w G cX11_takeCondition RX11 4 (some .boolean) { frames := 10, cells := 0, slots := 0, locals := 224 }) (hX : WF dd m) (hp : PB m 1545 11) (h : fX11_takeCondition_9f a1 s = some x) (K : (Sum.elim (fX11_takeCondition_9P w l G (QM w G WF (some (mI r)) d' m 0 0) m a1) (fun q => q = (d', r))) x) : V w l WF G (QM w G WF (some (mI r)) d' m 0 0) s.1 m 0 0 9 [mA 1545, mI a1, mI (s.2), mU] [] := by
  obtain ⟨d, v2⟩ := s
  unfold fX11_takeCondition_9f at h
  dsimp only at h
  refine v_aload_n F dX11_takeCondition_9 rfl rfl ?_
  refine v_ldsw (tx := "NOT") (a := (-42)) F dX11_takeCondition_10 (List.mem_of_getElem? (i := 72) rfl) (by decide) ?_
  obtain ⟨x3, hc4, h⟩ := b1_some h
  refine v_callVv (c := 11) F dX11_takeCondition_13 cv_X11_214 rfl (PB.ob hp hX (Nat.le_of_ble_eq_true rfl)) (Nat.le_of_ble_eq_true rfl) rfl (vm_X11_isWord hp (show isSb (-42) = true from rfl) hc4) rfl (rOk.of rfl) ?_
  refine v_if_eq F dX11_takeCondition_16 rfl (fun hq5 => ?_) (fun hq5 => ?_)
  · rw [if_pos hq5] at h
    refine v_aload_n F dX11_takeCondition_38 rfl rfl ?_
    refine v_bipush F dX11_takeCondition_39 rfl ⟨by decide, by decide⟩ ?_
    obtain ⟨x6, hc7, h⟩ := b1_some h
    refine v_callVv (c := 11) F dX11_takeCondition_41 cv_X11_207 rfl (PB.ob hp hX (Nat.le_of_ble_eq_true rfl)) (Nat.le_of_ble_eq_true rfl) rfl (vm_X11_isSign hp hc7) rfl (rOk.of rfl) ?_
    refine v_if_eq F dX11_takeCondition_44 rfl (fun hq8 => ?_) (fun hq8 => ?_)
    · rw [if_pos hq8] at h
      refine v_aload_n F dX11_takeCondition_89 rfl rfl ?_
      refine v_iload_n F dX11_takeCondition_90 rfl rfl ?_
      obtain ⟨d9, x11, hc10, h⟩ := b2_some h
      refine v_callVv (c := 11) F dX11_takeCondition_91 cv_X11_331 rfl (PB.ob hp hX (Nat.le_of_ble_eq_true rfl)) (Nat.le_of_ble_eq_true rfl) rfl (vm_X11_takeTest hp hc10) rfl (rOk.of rfl) ?_
      refine v_if_ne F dX11_takeCondition_94 rfl (fun hq12 => ?_) (fun hq12 => ?_)
      · rw [if_neg hq12] at h
        exact fX11_takeCondition_99_ok F hX hp h K
      · rw [if_pos hq12] at h
        obtain ⟨z, hu, ez⟩ := up_some h
        clear h
        subst ez
        have h := hu
        clear hu
        refine v_iconst F dX11_takeCondition_97 ⟨by decide, by decide⟩ ?_
        cases h
        cases (show _ = (d', r) from K)
        exact v_zret F (Or.inl rfl) dX11_takeCondition_98
    · rw [if_neg hq8] at h
      obtain ⟨x36, ex36, h⟩ := lv_some h
      refine v_iincN F dX11_takeCondition_47 (Nat.le_of_ble_eq_true rfl) rfl ex36 (L' := [mA 1545, mI a1, mI x36, mU]) rfl ?_
      refine v_iload_n F dX11_takeCondition_50 rfl rfl ?_
      refine v_bipush F dX11_takeCondition_51 rfl ⟨by decide, by decide⟩ ?_
      refine v_icmp_le F dX11_takeCondition_53 rfl (fun hq37 => ?_) (fun hq37 => ?_)
      · rw [if_pos hq37] at h
        exact fX11_takeCondition_69_ok F hX hp h K
      · rw [if_neg hq37] at h
        refine v_aload_n F dX11_takeCondition_56 rfl rfl ?_
        refine v_aload_n F dX11_takeCondition_57 rfl rfl ?_
        refine gf_X11_161 F dX11_takeCondition_58 hp (v := 1566) rfl ?_
        refine v_aload_n F dX11_takeCondition_61 rfl rfl ?_
        refine gf_X11_188 F dX11_takeCondition_62 hp ?_
        obtain ⟨x41, ex41, h⟩ := lv_some h
        refine v_nI ex41 ?_
        obtain ⟨hi42, h⟩ := ck_some h
        refine v_iald F dX11_takeCondition_65 (ar_X11_25 hX hp) hi42 ?_
        obtain ⟨d43, hc44, h⟩ := bd_some h
        refine v_callV0 (c := 11) F dX11_takeCondition_66 cv_X11_224 rfl (PB.ob hp hX (Nat.le_of_ble_eq_true rfl)) (Nat.le_of_ble_eq_true rfl) rfl (vm_X11_blame hp hc44) rfl (rOk.of rfl) ?_
        exact fX11_takeCondition_69_ok F hX hp h K
  · rw [if_neg hq5] at h
    refine v_aload_n F dX11_takeCondition_19 rfl rfl ?_
    refine v_iload_n F dX11_takeCondition_20 rfl rfl ?_
    refine v_iconst F dX11_takeCondition_21 ⟨by decide, by decide⟩ ?_
    obtain ⟨d45, hc46, h⟩ := bd_some h
    refine v_callV0 (c := 11) F dX11_takeCondition_22 cv_X11_325 rfl (PB.ob hp hX (Nat.le_of_ble_eq_true rfl)) (Nat.le_of_ble_eq_true rfl) rfl (vm_X11_addStep hp hc46) rfl (rOk.of rfl) ?_
    refine v_aload_n F dX11_takeCondition_25 rfl rfl ?_
    refine v_dup_A F dX11_takeCondition_26 ?_
    refine gf_X11_188 F dX11_takeCondition_27 hp ?_
    refine v_iconst F dX11_takeCondition_30 ⟨by decide, by decide⟩ ?_
    refine v_iadd F dX11_takeCondition_31 ?_
    obtain ⟨d47, ed47, h⟩ := sd_some h
    refine pf_X11_188 F dX11_takeCondition_32 hp ?_
    refine v_nD ed47 ?_
    refine v_goto F dX11_takeCondition_35 rfl ?_
    cases h
    exact K
theorem fX11_takeCondition_9_ok {w : Wd} {l : Launch} {G : Cx} {d m dd : Dt} {a1 v2 : Int} {d' : Dt} {r : Int} {x : (Dt × Int)} (F : Fx w G cX11_takeCondition RX11 4 (some .boolean) { frames := 10, cells := 0, slots := 0, locals := 224 }) (hX : WF dd m) (hp : PB m 1545 11) (h : fX11_takeCondition_9 d a1 v2 = some x) (K : (fun q => q = (d', r)) x) : V w l WF G (QM w G WF (some (mI r)) d' m 0 0) d m 0 0 9 [mA 1545, mI a1, mI v2, mU] [] := by
  unfold fX11_takeCondition_9 at h
  exact loop_ok (P := fX11_takeCondition_9P w l G (QM w G WF (some (mI r)) d' m 0 0) m a1) (fun s x hx h1 h2 => fX11_takeCondition_9f_ok F hX hp hx (by
    cases x with
    | inl s' => exact h1 s' rfl
    | inr z => cases h2 z rfl; exact K)) h
theorem vm_X11_takeCondition {w : Wd} {l : Launch} {d m : Dt} {a1 : Int} {d' : Dt} {r : Int} (hp : PB m 1545 11) (h : fX11_takeCondition d a1 = some (d', r)) : VM w l WF yX11_takeCondition cX11_takeCondition 4 (some .boolean) 10 224 0 0 d m [mA 1545, mI a1] (some (mI r)) d' m := by
  obtain ⟨x, h, K⟩ : ∃ x, fX11_takeCondition d a1 = some x ∧ x = (d', r) := ⟨_, h, rfl⟩
  refine VM.of (L := [mA 1545, mI a1, mU, mU]) (by decide +kernel) rfl (Nat.le_of_ble_eq_true rfl) fun G F _ => v_fact fun _ hX _ _ => ?_
  unfold fX11_takeCondition at h
  refine v_iconst F dX11_takeCondition_0 ⟨by decide, by decide⟩ ?_
  refine v_istore_n F dX11_takeCondition_1 rfl (Nat.le_of_ble_eq_true rfl) (L' := [mA 1545, mI a1, mI 0, mU]) rfl ?_
  refine v_aload_n F dX11_takeCondition_2 rfl rfl ?_
  refine gf_X11_290 F dX11_takeCondition_3 hp (v := 1570) rfl ?_
  refine v_iload_n F dX11_takeCondition_6 rfl rfl ?_
  refine v_iconst F dX11_takeCondition_7 ⟨by decide, by decide⟩ ?_
  obtain ⟨hi1, h⟩ := ck_some h
  obtain ⟨d2, ed2, h⟩ := sd_some h
  refine v_iast F dX11_takeCondition_8 (ar_X11_37 hX hp) hi1 ?_
  refine v_nD ed2 ?_
  exact fX11_takeCondition_9_ok F hX hp h K
theorem vm_X11_takeSignatures {w : Wd} {l : Launch} {d m : Dt} {d' : Dt} {r : Int} (hp : PB m 1545 11) (h : fX11_takeSignatures d = some (d', r)) : VM w l WF yX11_takeSignatures cX11_takeSignatures 1 (some .boolean) 6 129 0 0 d m [mA 1545] (some (mI r)) d' m := by
  obtain ⟨x, h, K⟩ : ∃ x, fX11_takeSignatures d = some x ∧ x = (d', r) := ⟨_, h, rfl⟩
  refine VM.of (L := [mA 1545]) (by decide +kernel) rfl (Nat.le_of_ble_eq_true rfl) fun G F _ => v_fact fun _ hX _ _ => ?_
  unfold fX11_takeSignatures at h
  refine v_aload_n F dX11_takeSignatures_0 rfl rfl ?_
  refine v_iconst F dX11_takeSignatures_1 ⟨by decide, by decide⟩ ?_
  refine v_bipush F dX11_takeSignatures_2 rfl ⟨by decide, by decide⟩ ?_
  obtain ⟨d1, x3, hc2, h⟩ := b2_some h
  refine v_callVv (c := 11) F dX11_takeSignatures_4 cv_X11_301 rfl (PB.ob hp hX (Nat.le_of_ble_eq_true rfl)) (Nat.le_of_ble_eq_true rfl) rfl (vm_X11_takeWithin hp hc2) rfl (rOk.of rfl) ?_
  refine v_if_ne F dX11_takeSignatures_7 rfl (fun hq4 => ?_) (fun hq4 => ?_)
  · rw [if_neg hq4] at h
    refine v_aload_n F dX11_takeSignatures_12 rfl rfl ?_
    refine gf_X11_281 F dX11_takeSignatures_13 hp (v := 1576) rfl ?_
    refine v_iconst F dX11_takeSignatures_16 ⟨by decide, by decide⟩ ?_
    refine v_aload_n F dX11_takeSignatures_17 rfl rfl ?_
    refine gf_X11_218 F dX11_takeSignatures_18 hp ?_
    obtain ⟨d5, ed5, h⟩ := sd_some h
    refine v_iast F dX11_takeSignatures_21 (ar_X11_43 hX hp) ⟨by decide, by decide⟩ ?_
    refine v_nD ed5 ?_
    refine v_aload_n F dX11_takeSignatures_22 rfl rfl ?_
    refine gf_X11_281 F dX11_takeSignatures_23 hp (v := 1576) rfl ?_
    refine v_bipush F dX11_takeSignatures_26 rfl ⟨by decide, by decide⟩ ?_
    refine v_iconst F dX11_takeSignatures_28 ⟨by decide, by decide⟩ ?_
    obtain ⟨d6, ed6, h⟩ := sd_some h
    refine v_iast F dX11_takeSignatures_29 (ar_X11_43 hX hp) ⟨by decide, by decide⟩ ?_
    refine v_nD ed6 ?_
    refine v_aload_n F dX11_takeSignatures_30 rfl rfl ?_
    refine v_ldsw (tx := "EACH") (a := (-26)) F dX11_takeSignatures_31 (List.mem_of_getElem? (i := 80) rfl) (by decide) ?_
    obtain ⟨d7, x9, hc8, h⟩ := b2_some h
    refine v_callVv (c := 11) F dX11_takeSignatures_34 cv_X11_249 rfl (PB.ob hp hX (Nat.le_of_ble_eq_true rfl)) (Nat.le_of_ble_eq_true rfl) rfl (vm_X11_mayWord hp (show isSb (-26) = true from rfl) hc8) rfl (rOk.of rfl) ?_
    refine v_if_ne F dX11_takeSignatures_37 rfl (fun hq10 => ?_) (fun hq10 => ?_)
    · rw [if_neg hq10] at h
      refine v_aload_n F dX11_takeSignatures_42 rfl rfl ?_
      refine v_iconst F dX11_takeSignatures_43 ⟨by decide, by decide⟩ ?_
      refine v_bipush F dX11_takeSignatures_44 rfl ⟨by decide, by decide⟩ ?_
      obtain ⟨d11, x13, hc12, h⟩ := b2_some h
      refine v_callVv (c := 11) F dX11_takeSignatures_46 cv_X11_301 rfl (PB.ob hp hX (Nat.le_of_ble_eq_true rfl)) (Nat.le_of_ble_eq_true rfl) rfl (vm_X11_takeWithin hp hc12) rfl (rOk.of rfl) ?_
      refine v_if_ne F dX11_takeSignatures_49 rfl (fun hq14 => ?_) (fun hq14 => ?_)
      · rw [if_neg hq14] at h
        refine v_aload_n F dX11_takeSignatures_54 rfl rfl ?_
        refine gf_X11_281 F dX11_takeSignatures_55 hp (v := 1576) rfl ?_
        refine v_bipush F dX11_takeSignatures_58 rfl ⟨by decide, by decide⟩ ?_
        refine v_aload_n F dX11_takeSignatures_60 rfl rfl ?_
        refine gf_X11_218 F dX11_takeSignatures_61 hp ?_
        obtain ⟨d15, ed15, h⟩ := sd_some h
        refine v_iast F dX11_takeSignatures_64 (ar_X11_43 hX hp) ⟨by decide, by decide⟩ ?_
        refine v_nD ed15 ?_
        refine v_iconst F dX11_takeSignatures_65 ⟨by decide, by decide⟩ ?_
        cases h
        cases (show _ = (d', r) from K)
        exact v_zret F (Or.inr rfl) dX11_takeSignatures_66
      · rw [if_pos hq14] at h
        refine v_iconst F dX11_takeSignatures_52 ⟨by decide, by decide⟩ ?_
        cases h
        cases (show _ = (d', r) from K)
        exact v_zret F (Or.inl rfl) dX11_takeSignatures_53
    · rw [if_pos hq10] at h
      refine v_iconst F dX11_takeSignatures_40 ⟨by decide, by decide⟩ ?_
      cases h
      cases (show _ = (d', r) from K)
      exact v_zret F (Or.inr rfl) dX11_takeSignatures_41
  · rw [if_pos hq4] at h
    refine v_iconst F dX11_takeSignatures_10 ⟨by decide, by decide⟩ ?_
    cases h
    cases (show _ = (d', r) from K)
    exact v_zret F (Or.inl rfl) dX11_takeSignatures_11
theorem vm_X11_takeWord {w : Wd} {l : Launch} {d m : Dt} {a1 : Int} {d' : Dt} {r : Int} (hp : PB m 1545 11) (hp1 : isS a1) (h : fX11_takeWord d a1 = some (d', r)) : VM w l WF yX11_takeWord cX11_takeWord 2 (some .boolean) 5 107 0 0 d m [mA 1545, mA a1] (some (mI r)) d' m := by
  obtain ⟨x, h, K⟩ : ∃ x, fX11_takeWord d a1 = some x ∧ x = (d', r) := ⟨_, h, rfl⟩
  refine VM.of (L := [mA 1545, mA a1]) (by decide +kernel) rfl (Nat.le_of_ble_eq_true rfl) fun G F _ => v_fact fun _ hX _ _ => ?_
  unfold fX11_takeWord at h
  refine v_aload_n F dX11_takeWord_0 rfl rfl ?_
  refine v_aload_n F dX11_takeWord_1 rfl rfl ?_
  obtain ⟨x1, hc2, h⟩ := b1_some h
  refine v_callVv (c := 11) F dX11_takeWord_2 cv_X11_214 rfl (PB.ob hp hX (Nat.le_of_ble_eq_true rfl)) (Nat.le_of_ble_eq_true rfl) rfl (vm_X11_isWord hp hp1 hc2) rfl (rOk.of rfl) ?_
  refine v_if_ne F dX11_takeWord_5 rfl (fun hq3 => ?_) (fun hq3 => ?_)
  · rw [if_neg hq3] at h
    refine v_aload_n F dX11_takeWord_13 rfl rfl ?_
    refine v_dup_A F dX11_takeWord_14 ?_
    refine gf_X11_188 F dX11_takeWord_15 hp ?_
    refine v_iconst F dX11_takeWord_18 ⟨by decide, by decide⟩ ?_
    refine v_iadd F dX11_takeWord_19 ?_
    obtain ⟨d4, ed4, h⟩ := sd_some h
    refine pf_X11_188 F dX11_takeWord_20 hp ?_
    refine v_nD ed4 ?_
    refine v_iconst F dX11_takeWord_23 ⟨by decide, by decide⟩ ?_
    cases h
    cases (show _ = (d', r) from K)
    exact v_zret F (Or.inr rfl) dX11_takeWord_24
  · rw [if_pos hq3] at h
    refine v_aload_n F dX11_takeWord_8 rfl rfl ?_
    obtain ⟨d5, x7, hc6, h⟩ := b2_some h
    refine v_callVv (c := 11) F dX11_takeWord_9 cv_X11_210 rfl (PB.ob hp hX (Nat.le_of_ble_eq_true rfl)) (Nat.le_of_ble_eq_true rfl) rfl (vm_X11_miss hp hc6) rfl (rOk.of rfl) ?_
    obtain ⟨hb, h⟩ := ck_some h
    cases h
    cases (show _ = (d', r) from K)
    exact v_zret F hb dX11_takeWord_12
theorem vm_X11_ruleName {w : Wd} {l : Launch} {X : Dt → Dt → Prop} {d m : Dt} {a1 : Int} : VM w l X yX11_ruleName cX11_ruleName 1 (some (.object "java/lang/String")) 0 0 0 0 d m [mI a1] (some (mA (fX11_ruleName a1))) d m := by
  obtain ⟨r, hr⟩ : ∃ r, fX11_ruleName a1 = r := ⟨_, rfl⟩
  rw [hr]
  obtain ⟨x, h, K⟩ : ∃ x, fX11_ruleName a1 = x ∧ x = r := ⟨_, hr, rfl⟩
  refine VM.of (L := [mI a1]) (by decide +kernel) rfl (Nat.le_of_ble_eq_true rfl) fun G F _ => ?_
  unfold fX11_ruleName at h
  refine v_iload_n F dX11_ruleName_0 rfl rfl ?_
  by_cases hq1 : a1 = 0
  · rw [if_pos hq1] at h
    refine v_tableIn F dX11_ruleName_1 hq1 (by decide) (by decide) rfl rfl ?_
    refine v_ldsw (tx := "FIRST") (a := (-72)) F dX11_ruleName_72 (List.mem_of_getElem? (i := 83) rfl) (by decide) ?_
    subst h
    cases (show _ = r from K)
    exact v_aret F rfl (Or.inl ⟨_, rfl⟩) dX11_ruleName_75
  · rw [if_neg hq1] at h
    by_cases hq2 : a1 = 1
    · rw [if_pos hq2] at h
      refine v_tableIn F dX11_ruleName_1 hq2 (by decide) (by decide) rfl rfl ?_
      refine v_ldsw (tx := "BLOCK") (a := (-74)) F dX11_ruleName_76 (List.mem_of_getElem? (i := 84) rfl) (by decide) ?_
      subst h
      cases (show _ = r from K)
      exact v_aret F rfl (Or.inl ⟨_, rfl⟩) dX11_ruleName_79
    · rw [if_neg hq2] at h
      by_cases hq3 : a1 = 2
      · rw [if_pos hq3] at h
        refine v_tableIn F dX11_ruleName_1 hq3 (by decide) (by decide) rfl rfl ?_
        refine v_ldsw (tx := "APPROVAL") (a := (-76)) F dX11_ruleName_80 (List.mem_of_getElem? (i := 85) rfl) (by decide) ?_
        subst h
        cases (show _ = r from K)
        exact v_aret F rfl (Or.inl ⟨_, rfl⟩) dX11_ruleName_83
      · rw [if_neg hq3] at h
        by_cases hq4 : a1 = 3
        · rw [if_pos hq4] at h
          refine v_tableIn F dX11_ruleName_1 hq4 (by decide) (by decide) rfl rfl ?_
          refine v_ldsw (tx := "POINTS") (a := (-78)) F dX11_ruleName_84 (List.mem_of_getElem? (i := 86) rfl) (by decide) ?_
          subst h
          cases (show _ = r from K)
          exact v_aret F rfl (Or.inl ⟨_, rfl⟩) dX11_ruleName_87
        · rw [if_neg hq4] at h
          by_cases hq5 : a1 = 4
          · rw [if_pos hq5] at h
            refine v_tableIn F dX11_ruleName_1 hq5 (by decide) (by decide) rfl rfl ?_
            refine v_ldsw (tx := "MEDIAN") (a := (-80)) F dX11_ruleName_88 (List.mem_of_getElem? (i := 87) rfl) (by decide) ?_
            subst h
            cases (show _ = r from K)
            exact v_aret F rfl (Or.inl ⟨_, rfl⟩) dX11_ruleName_91
          · rw [if_neg hq5] at h
            by_cases hq6 : a1 = 5
            · rw [if_pos hq6] at h
              refine v_tableIn F dX11_ruleName_1 hq6 (by decide) (by decide) rfl rfl ?_
              refine v_ldsw (tx := "RANKS") (a := (-82)) F dX11_ruleName_92 (List.mem_of_getElem? (i := 88) rfl) (by decide) ?_
              subst h
              cases (show _ = r from K)
              exact v_aret F rfl (Or.inl ⟨_, rfl⟩) dX11_ruleName_95
            · rw [if_neg hq6] at h
              by_cases hq7 : a1 = 6
              · rw [if_pos hq7] at h
                refine v_tableIn F dX11_ruleName_1 hq7 (by decide) (by decide) rfl rfl ?_
                refine v_ldsw (tx := "OUT") (a := (-84)) F dX11_ruleName_96 (List.mem_of_getElem? (i := 89) rfl) (by decide) ?_
                subst h
                cases (show _ = r from K)
                exact v_aret F rfl (Or.inl ⟨_, rfl⟩) dX11_ruleName_99
              · rw [if_neg hq7] at h
                by_cases hq8 : a1 = 7
                · rw [if_pos hq8] at h
                  refine v_tableIn F dX11_ruleName_1 hq8 (by decide) (by decide) rfl rfl ?_
                  refine v_ldsw (tx := "LEAST") (a := (-86)) F dX11_ruleName_100 (List.mem_of_getElem? (i := 90) rfl) (by decide) ?_
                  subst h
                  cases (show _ = r from K)
                  exact v_aret F rfl (Or.inl ⟨_, rfl⟩) dX11_ruleName_103
                · rw [if_neg hq8] at h
                  by_cases hq9 : a1 = 8
                  · rw [if_pos hq9] at h
                    refine v_tableIn F dX11_ruleName_1 hq9 (by decide) (by decide) rfl rfl ?_
                    refine v_ldsw (tx := "PAIRS") (a := (-88)) F dX11_ruleName_104 (List.mem_of_getElem? (i := 91) rfl) (by decide) ?_
                    subst h
                    cases (show _ = r from K)
                    exact v_aret F rfl (Or.inl ⟨_, rfl⟩) dX11_ruleName_107
                  · rw [if_neg hq9] at h
                    by_cases hq10 : a1 = 9
                    · rw [if_pos hq10] at h
                      refine v_tableIn F dX11_ruleName_1 hq10 (by decide) (by decide) rfl rfl ?_
                      refine v_ldsw (tx := "PATHS") (a := (-90)) F dX11_ruleName_108 (List.mem_of_getElem? (i := 92) rfl) (by decide) ?_
                      subst h
                      cases (show _ = r from K)
                      exact v_aret F rfl (Or.inl ⟨_, rfl⟩) dX11_ruleName_111
                    · rw [if_neg hq10] at h
                      by_cases hq11 : a1 = 10
                      · rw [if_pos hq11] at h
                        refine v_tableIn F dX11_ruleName_1 hq11 (by decide) (by decide) rfl rfl ?_
                        refine v_ldsw (tx := "TOP") (a := (-92)) F dX11_ruleName_112 (List.mem_of_getElem? (i := 93) rfl) (by decide) ?_
                        subst h
                        cases (show _ = r from K)
                        exact v_aret F rfl (Or.inl ⟨_, rfl⟩) dX11_ruleName_115
                      · rw [if_neg hq11] at h
                        by_cases hq12 : a1 = 11
                        · rw [if_pos hq12] at h
                          refine v_tableIn F dX11_ruleName_1 hq12 (by decide) (by decide) rfl rfl ?_
                          refine v_ldsw (tx := "MEEK") (a := (-94)) F dX11_ruleName_116 (List.mem_of_getElem? (i := 94) rfl) (by decide) ?_
                          subst h
                          cases (show _ = r from K)
                          exact v_aret F rfl (Or.inl ⟨_, rfl⟩) dX11_ruleName_119
                        · rw [if_neg hq12] at h
                          by_cases hq13 : a1 = 12
                          · rw [if_pos hq13] at h
                            refine v_tableIn F dX11_ruleName_1 hq13 (by decide) (by decide) rfl rfl ?_
                            refine v_ldsw (tx := "TRANSFER") (a := (-96)) F dX11_ruleName_120 (List.mem_of_getElem? (i := 95) rfl) (by decide) ?_
                            subst h
                            cases (show _ = r from K)
                            exact v_aret F rfl (Or.inl ⟨_, rfl⟩) dX11_ruleName_123
                          · rw [if_neg hq13] at h
                            by_cases hq14 : a1 = 13
                            · rw [if_pos hq14] at h
                              refine v_tableIn F dX11_ruleName_1 hq14 (by decide) (by decide) rfl rfl ?_
                              refine v_ldsw (tx := "WHOLE") (a := (-98)) F dX11_ruleName_124 (List.mem_of_getElem? (i := 96) rfl) (by decide) ?_
                              subst h
                              cases (show _ = r from K)
                              exact v_aret F rfl (Or.inl ⟨_, rfl⟩) dX11_ruleName_127
                            · rw [if_neg hq14] at h
                              refine v_tableOut F dX11_ruleName_1 (by omega) rfl ?_
                              refine v_ldsw (tx := "LISTS") (a := (-100)) F dX11_ruleName_128 (List.mem_of_getElem? (i := 97) rfl) (by decide) ?_
                              subst h
                              cases (show _ = r from K)
                              exact v_aret F rfl (Or.inl ⟨_, rfl⟩) dX11_ruleName_131
theorem ps_X11_ruleName {a1 : Int} : isS (fX11_ruleName a1) := by
  show isSb _ = true
  unfold fX11_ruleName
  by_cases h0 : a1 = 0
  · rw [if_pos h0]; rfl
  rw [if_neg h0]
  by_cases h1 : a1 = 1
  · rw [if_pos h1]; rfl
  rw [if_neg h1]
  by_cases h2 : a1 = 2
  · rw [if_pos h2]; rfl
  rw [if_neg h2]
  by_cases h3 : a1 = 3
  · rw [if_pos h3]; rfl
  rw [if_neg h3]
  by_cases h4 : a1 = 4
  · rw [if_pos h4]; rfl
  rw [if_neg h4]
  by_cases h5 : a1 = 5
  · rw [if_pos h5]; rfl
  rw [if_neg h5]
  by_cases h6 : a1 = 6
  · rw [if_pos h6]; rfl
  rw [if_neg h6]
  by_cases h7 : a1 = 7
  · rw [if_pos h7]; rfl
  rw [if_neg h7]
  by_cases h8 : a1 = 8
  · rw [if_pos h8]; rfl
  rw [if_neg h8]
  by_cases h9 : a1 = 9
  · rw [if_pos h9]; rfl
  rw [if_neg h9]
  by_cases h10 : a1 = 10
  · rw [if_pos h10]; rfl
  rw [if_neg h10]
  by_cases h11 : a1 = 11
  · rw [if_pos h11]; rfl
  rw [if_neg h11]
  by_cases h12 : a1 = 12
  · rw [if_pos h12]; rfl
  rw [if_neg h12]
  by_cases h13 : a1 = 13
  · rw [if_pos h13]; rfl
  rw [if_neg h13]
  rfl
theorem vm_X11_wayName {w : Wd} {l : Launch} {X : Dt → Dt → Prop} {d m : Dt} {a1 : Int} : VM w l X yX11_wayName cX11_wayName 1 (some (.object "java/lang/String")) 0 0 0 0 d m [mI a1] (some (mA (fX11_wayName a1))) d m := by
  obtain ⟨r, hr⟩ : ∃ r, fX11_wayName a1 = r := ⟨_, rfl⟩
  rw [hr]
  obtain ⟨x, h, K⟩ : ∃ x, fX11_wayName a1 = x ∧ x = r := ⟨_, hr, rfl⟩
  refine VM.of (L := [mI a1]) (by decide +kernel) rfl (Nat.le_of_ble_eq_true rfl) fun G F _ => ?_
  unfold fX11_wayName at h
  refine v_iload_n F dX11_wayName_0 rfl rfl ?_
  by_cases hq1 : a1 = 0
  · rw [if_pos hq1] at h
    refine v_tableIn F dX11_wayName_1 hq1 (by decide) (by decide) rfl rfl ?_
    refine v_ldsw (tx := "ONES") (a := (-102)) F dX11_wayName_48 (List.mem_of_getElem? (i := 100) rfl) (by decide) ?_
    subst h
    cases (show _ = r from K)
    exact v_aret F rfl (Or.inl ⟨_, rfl⟩) dX11_wayName_51
  · rw [if_neg hq1] at h
    by_cases hq2 : a1 = 1
    · rw [if_pos hq2] at h
      refine v_tableIn F dX11_wayName_1 hq2 (by decide) (by decide) rfl rfl ?_
      refine v_ldsw (tx := "ODDS") (a := (-104)) F dX11_wayName_52 (List.mem_of_getElem? (i := 101) rfl) (by decide) ?_
      subst h
      cases (show _ = r from K)
      exact v_aret F rfl (Or.inl ⟨_, rfl⟩) dX11_wayName_55
    · rw [if_neg hq2] at h
      by_cases hq3 : a1 = 2
      · rw [if_pos hq3] at h
        refine v_tableIn F dX11_wayName_1 hq3 (by decide) (by decide) rfl rfl ?_
        refine v_ldsw (tx := "STEEP") (a := (-106)) F dX11_wayName_56 (List.mem_of_getElem? (i := 102) rfl) (by decide) ?_
        subst h
        cases (show _ = r from K)
        exact v_aret F rfl (Or.inl ⟨_, rfl⟩) dX11_wayName_59
      · rw [if_neg hq3] at h
        by_cases hq4 : a1 = 3
        · rw [if_pos hq4] at h
          refine v_tableIn F dX11_wayName_1 hq4 (by decide) (by decide) rfl rfl ?_
          refine v_ldsw (tx := "HALVES") (a := (-108)) F dX11_wayName_60 (List.mem_of_getElem? (i := 103) rfl) (by decide) ?_
          subst h
          cases (show _ = r from K)
          exact v_aret F rfl (Or.inl ⟨_, rfl⟩) dX11_wayName_63
        · rw [if_neg hq4] at h
          by_cases hq5 : a1 = 4
          · rw [if_pos hq5] at h
            refine v_tableIn F dX11_wayName_1 hq5 (by decide) (by decide) rfl rfl ?_
            refine v_ldsw (tx := "MODIFIED") (a := (-110)) F dX11_wayName_64 (List.mem_of_getElem? (i := 104) rfl) (by decide) ?_
            subst h
            cases (show _ = r from K)
            exact v_aret F rfl (Or.inl ⟨_, rfl⟩) dX11_wayName_67
          · rw [if_neg hq5] at h
            by_cases hq6 : a1 = 5
            · rw [if_pos hq6] at h
              refine v_tableIn F dX11_wayName_1 hq6 (by decide) (by decide) rfl rfl ?_
              refine v_ldsw (tx := "HARE") (a := (-112)) F dX11_wayName_68 (List.mem_of_getElem? (i := 98) rfl) (by decide) ?_
              subst h
              cases (show _ = r from K)
              exact v_aret F rfl (Or.inl ⟨_, rfl⟩) dX11_wayName_71
            · rw [if_neg hq6] at h
              by_cases hq7 : a1 = 6
              · rw [if_pos hq7] at h
                refine v_tableIn F dX11_wayName_1 hq7 (by decide) (by decide) rfl rfl ?_
                refine v_ldsw (tx := "DROOP") (a := (-114)) F dX11_wayName_72 (List.mem_of_getElem? (i := 99) rfl) (by decide) ?_
                subst h
                cases (show _ = r from K)
                exact v_aret F rfl (Or.inl ⟨_, rfl⟩) dX11_wayName_75
              · rw [if_neg hq7] at h
                by_cases hq8 : a1 = 7
                · rw [if_pos hq8] at h
                  refine v_tableIn F dX11_wayName_1 hq8 (by decide) (by decide) rfl rfl ?_
                  refine v_ldsw (tx := "BISCHOFF") (a := (-116)) F dX11_wayName_76 (List.mem_of_getElem? (i := 105) rfl) (by decide) ?_
                  subst h
                  cases (show _ = r from K)
                  exact v_aret F rfl (Or.inl ⟨_, rfl⟩) dX11_wayName_79
                · rw [if_neg hq8] at h
                  refine v_tableOut F dX11_wayName_1 (by omega) rfl ?_
                  refine v_ldsw (tx := "DOUBLE") (a := (-118)) F dX11_wayName_80 (List.mem_of_getElem? (i := 106) rfl) (by decide) ?_
                  subst h
                  cases (show _ = r from K)
                  exact v_aret F rfl (Or.inl ⟨_, rfl⟩) dX11_wayName_83
theorem ps_X11_wayName {a1 : Int} : isS (fX11_wayName a1) := by
  show isSb _ = true
  unfold fX11_wayName
  by_cases h0 : a1 = 0
  · rw [if_pos h0]; rfl
  rw [if_neg h0]
  by_cases h1 : a1 = 1
  · rw [if_pos h1]; rfl
  rw [if_neg h1]
  by_cases h2 : a1 = 2
  · rw [if_pos h2]; rfl
  rw [if_neg h2]
  by_cases h3 : a1 = 3
  · rw [if_pos h3]; rfl
  rw [if_neg h3]
  by_cases h4 : a1 = 4
  · rw [if_pos h4]; rfl
  rw [if_neg h4]
  by_cases h5 : a1 = 5
  · rw [if_pos h5]; rfl
  rw [if_neg h5]
  by_cases h6 : a1 = 6
  · rw [if_pos h6]; rfl
  rw [if_neg h6]
  by_cases h7 : a1 = 7
  · rw [if_pos h7]; rfl
  rw [if_neg h7]
  rfl
def fX11_takeLists_4P (w : Wd) (l : Launch) (G : Cx) (Q : State → Prop) (m : Dt) (a1 : Int) (s : Dt × Int × Int) : Prop := V w l WF G Q s.1 m 0 0 4 [mA 1545, mI a1, mI (s.2.1), mI (s.2.2), mU] []
theorem fX11_takeLists_207_ok {w : Wd} {l : Launch} {G : Cx} {d m dd : Dt} {a1 : Int} {d' : Dt} {r : Int} {x : (Dt × Int)} (F : Fx w G cX11_takeLists RX11 5 (some .boolean) { frames := 6, cells := 0, slots := 0, locals := 129 }) (hX : WF dd m) (hp : PB m 1545 11) (h : fX11_takeLists_207 d a1 = some x) (K : (fun q => q = (d', r)) x) : V w l WF G (QM w G WF (some (mI r)) d' m 0 0) d m 0 0 207 [mA 1545, mI a1, mU, mU, mU] [] := by
  unfold fX11_takeLists_207 at h
  refine v_aload_n F dX11_takeLists_207 rfl rfl ?_
  refine v_iconst F dX11_takeLists_208 ⟨by decide, by decide⟩ ?_
  obtain ⟨d20, ed20, h⟩ := sd_some h
  refine pf_X11_410 F dX11_takeLists_209 hp (Or.inr rfl) ?_
  refine v_nD ed20 ?_
  refine v_aload_n F dX11_takeLists_212 rfl rfl ?_
  refine gf_X11_284 F dX11_takeLists_213 hp (v := 1577) rfl ?_
  refine v_iload_n F dX11_takeLists_216 rfl rfl ?_
  refine v_bipush F dX11_takeLists_217 rfl ⟨by decide, by decide⟩ ?_
  refine v_iadd F dX11_takeLists_219 ?_
  refine v_iconst F dX11_takeLists_220 ⟨by decide, by decide⟩ ?_
  obtain ⟨x21, ex21, h⟩ := lv_some h
  refine v_n2 ex21 ?_
  obtain ⟨hi22, h⟩ := ck_some h
  obtain ⟨d23, ed23, h⟩ := sd_some h
  refine v_iast F dX11_takeLists_221 (ar_X11_44 hX hp) hi22 ?_
  refine v_nD ed23 ?_
  refine v_aload_n F dX11_takeLists_222 rfl rfl ?_
  refine v_dup_A F dX11_takeLists_223 ?_
  refine gf_X11_188 F dX11_takeLists_224 hp ?_
  refine v_iconst F dX11_takeLists_227 ⟨by decide, by decide⟩ ?_
  refine v_iadd F dX11_takeLists_228 ?_
  obtain ⟨d24, ed24, h⟩ := sd_some h
  refine pf_X11_188 F dX11_takeLists_229 hp ?_
  refine v_nD ed24 ?_
  refine v_iconst F dX11_takeLists_232 ⟨by decide, by decide⟩ ?_
  cases h
  cases (show _ = (d', r) from K)
  exact v_zret F (Or.inr rfl) dX11_takeLists_233
theorem fX11_takeLists_176_ok {w : Wd} {l : Launch} {G : Cx} {d m dd : Dt} {a1 s1 s2 : Int} {d' : Dt} {r : Int} {x : (Dt × Int)} (F : Fx w G cX11_takeLists RX11 5 (some .boolean) { frames := 6, cells := 0, slots := 0, locals := 129 }) (hX : WF dd m) (hp : PB m 1545 11) (h : fX11_takeLists_176 d a1 s1 s2 = some x) (K : (fun q => q = (d', r)) x) : V w l WF G (QM w G WF (some (mI r)) d' m 0 0) d m 0 0 176 [mA 1545, mI a1, mU, mU, mU] [mI s2, mI s1, mA 1577] := by
  unfold fX11_takeLists_176 at h
  obtain ⟨hi14, h⟩ := ck_some h
  obtain ⟨d15, ed15, h⟩ := sd_some h
  refine v_iast F dX11_takeLists_176 (ar_X11_44 hX hp) hi14 ?_
  refine v_nD ed15 ?_
  refine v_aload_n F dX11_takeLists_177 rfl rfl ?_
  refine v_ldsw (tx := "LEVEL") (a := (-56)) F dX11_takeLists_178 (List.mem_of_getElem? (i := 109) rfl) (by decide) ?_
  obtain ⟨x16, hc17, h⟩ := b1_some h
  refine v_callVv (c := 11) F dX11_takeLists_181 cv_X11_214 rfl (PB.ob hp hX (Nat.le_of_ble_eq_true rfl)) (Nat.le_of_ble_eq_true rfl) rfl (vm_X11_isWord hp (show isSb (-56) = true from rfl) hc17) rfl (rOk.of rfl) ?_
  refine v_if_eq F dX11_takeLists_184 rfl (fun hq18 => ?_) (fun hq18 => ?_)
  · rw [if_pos hq18] at h
    refine v_iconst F dX11_takeLists_232 ⟨by decide, by decide⟩ ?_
    cases h
    cases (show _ = (d', r) from K)
    exact v_zret F (Or.inr rfl) dX11_takeLists_233
  · rw [if_neg hq18] at h
    refine v_aload_n F dX11_takeLists_187 rfl rfl ?_
    refine gf_X11_410 F dX11_takeLists_188 hp ?_
    refine v_if_eq F dX11_takeLists_191 rfl (fun hq19 => ?_) (fun hq19 => ?_)
    · rw [if_pos hq19] at h
      exact fX11_takeLists_207_ok F hX hp h K
    · rw [if_neg hq19] at h
      refine v_aload_n F dX11_takeLists_194 rfl rfl ?_
      refine v_aload_n F dX11_takeLists_195 rfl rfl ?_
      refine gf_X11_161 F dX11_takeLists_196 hp (v := 1566) rfl ?_
      refine v_aload_n F dX11_takeLists_199 rfl rfl ?_
      refine gf_X11_188 F dX11_takeLists_200 hp ?_
      obtain ⟨x25, ex25, h⟩ := lv_some h
      refine v_nI ex25 ?_
      obtain ⟨hi26, h⟩ := ck_some h
      refine v_iald F dX11_takeLists_203 (ar_X11_25 hX hp) hi26 ?_
      obtain ⟨d27, hc28, h⟩ := bd_some h
      refine v_callV0 (c := 11) F dX11_takeLists_204 cv_X11_224 rfl (PB.ob hp hX (Nat.le_of_ble_eq_true rfl)) (Nat.le_of_ble_eq_true rfl) rfl (vm_X11_blame hp hc28) rfl (rOk.of rfl) ?_
      exact fX11_takeLists_207_ok F hX hp h K
theorem fX11_takeLists_153_ok {w : Wd} {l : Launch} {G : Cx} {d m dd : Dt} {a1 : Int} {d' : Dt} {r : Int} {x : (Dt × Int)} (F : Fx w G cX11_takeLists RX11 5 (some .boolean) { frames := 6, cells := 0, slots := 0, locals := 129 }) (hX : WF dd m) (hp : PB m 1545 11) (h : fX11_takeLists_153 d a1 = some x) (K : (fun q => q = (d', r)) x) : V w l WF G (QM w G WF (some (mI r)) d' m 0 0) d m 0 0 153 [mA 1545, mI a1, mU, mU, mU] [] := by
  unfold fX11_takeLists_153 at h
  refine v_aload_n F dX11_takeLists_153 rfl rfl ?_
  refine gf_X11_284 F dX11_takeLists_154 hp (v := 1577) rfl ?_
  refine v_iload_n F dX11_takeLists_157 rfl rfl ?_
  refine v_bipush F dX11_takeLists_158 rfl ⟨by decide, by decide⟩ ?_
  refine v_iadd F dX11_takeLists_160 ?_
  refine v_aload_n F dX11_takeLists_161 rfl rfl ?_
  refine v_ldsw (tx := "OPEN") (a := (-54)) F dX11_takeLists_162 (List.mem_of_getElem? (i := 108) rfl) (by decide) ?_
  obtain ⟨d10, x12, hc11, h⟩ := b2_some h
  refine v_callVv (c := 11) F dX11_takeLists_165 cv_X11_249 rfl (PB.ob hp hX (Nat.le_of_ble_eq_true rfl)) (Nat.le_of_ble_eq_true rfl) rfl (vm_X11_mayWord hp (show isSb (-54) = true from rfl) hc11) rfl (rOk.of rfl) ?_
  refine v_if_eq F dX11_takeLists_168 rfl (fun hq13 => ?_) (fun hq13 => ?_)
  · rw [if_pos hq13] at h
    refine v_iconst F dX11_takeLists_175 ⟨by decide, by decide⟩ ?_
    exact fX11_takeLists_176_ok F hX hp h K
  · rw [if_neg hq13] at h
    refine v_iconst F dX11_takeLists_171 ⟨by decide, by decide⟩ ?_
    refine v_goto F dX11_takeLists_172 rfl ?_
    exact fX11_takeLists_176_ok F hX hp h K
theorem fX11_takeLists_132_ok {w : Wd} {l : Launch} {G : Cx} {d m dd : Dt} {a1 v3 : Int} {d' : Dt} {r : Int} {x : (Dt × Int)} (F : Fx w G cX11_takeLists RX11 5 (some .boolean) { frames := 6, cells := 0, slots := 0, locals := 129 }) (hX : WF dd m) (hp : PB m 1545 11) (h : fX11_takeLists_132 d a1 v3 = some x) (K : (fun q => q = (d', r)) x) : V w l WF G (QM w G WF (some (mI r)) d' m 0 0) d m 0 0 132 [mA 1545, mI a1, mU, mI v3, mU] [] := by
  unfold fX11_takeLists_132 at h
  refine v_aload_n F dX11_takeLists_132 rfl rfl ?_
  refine gf_X11_284 F dX11_takeLists_133 hp (v := 1577) rfl ?_
  refine v_iload_n F dX11_takeLists_136 rfl rfl ?_
  refine v_iconst F dX11_takeLists_137 ⟨by decide, by decide⟩ ?_
  refine v_iadd F dX11_takeLists_138 ?_
  refine v_iload_n F dX11_takeLists_139 rfl rfl ?_
  obtain ⟨x46, ex46, h⟩ := lv_some h
  refine v_n2 ex46 ?_
  obtain ⟨hi47, h⟩ := ck_some h
  obtain ⟨d48, ed48, h⟩ := sd_some h
  refine v_iast F dX11_takeLists_140 (ar_X11_44 hX hp) hi47 ?_
  refine v_nD ed48 ?_
  refine v_aload_n F dX11_takeLists_141 rfl rfl ?_
  refine gf_X11_284 F dX11_takeLists_142 hp (v := 1577) rfl ?_
  refine v_iload_n F dX11_takeLists_145 rfl rfl ?_
  refine v_iconst F dX11_takeLists_146 ⟨by decide, by decide⟩ ?_
  refine v_iadd F dX11_takeLists_147 ?_
  refine v_aload_n F dX11_takeLists_148 rfl rfl ?_
  refine gf_X11_218 F dX11_takeLists_149 hp ?_
  obtain ⟨x49, ex49, h⟩ := lv_some h
  refine v_n2 ex49 ?_
  obtain ⟨hi50, h⟩ := ck_some h
  obtain ⟨d51, ed51, h⟩ := sd_some h
  refine v_iast F dX11_takeLists_152 (ar_X11_44 hX hp) hi50 ?_
  refine v_nD ed51 ?_
  refine v_fgt (L' := [mA 1545, mI a1, mU, mU, mU]) ⟨Or.inl rfl, Or.inl rfl, Or.inl rfl, Or.inr rfl, Or.inl rfl, trivial⟩ ?_
  exact fX11_takeLists_153_ok F hX hp h K
theorem fX11_takeLists_126_ok {w : Wd} {l : Launch} {G : Cx} {d m dd : Dt} {a1 v3 v4 : Int} {d' : Dt} {r : Int} {x : (Dt × Int)} (F : Fx w G cX11_takeLists RX11 5 (some .boolean) { frames := 6, cells := 0, slots := 0, locals := 129 }) (hX : WF dd m) (hp : PB m 1545 11) (h : fX11_takeLists_126 d a1 v3 v4 = some x) (K : (fun q => q = (d', r)) x) : V w l WF G (QM w G WF (some (mI r)) d' m 0 0) d m 0 0 126 [mA 1545, mI a1, mU, mI v3, mI v4] [] := by
  unfold fX11_takeLists_126 at h
  refine v_aload_n F dX11_takeLists_126 rfl rfl ?_
  refine v_iload F dX11_takeLists_127 rfl ?_
  obtain ⟨d44, hc45, h⟩ := bd_some h
  refine v_callV0 (c := 11) F dX11_takeLists_129 cv_X11_224 rfl (PB.ob hp hX (Nat.le_of_ble_eq_true rfl)) (Nat.le_of_ble_eq_true rfl) rfl (vm_X11_blame hp hc45) rfl (rOk.of rfl) ?_
  refine v_fgt (L' := [mA 1545, mI a1, mU, mI v3, mU]) ⟨Or.inl rfl, Or.inl rfl, Or.inl rfl, Or.inl rfl, Or.inr rfl, trivial⟩ ?_
  exact fX11_takeLists_132_ok F hX hp h K
theorem fX11_takeLists_37_ok {w : Wd} {l : Launch} {G : Cx} {d m dd : Dt} {a1 v2 : Int} {d' : Dt} {r : Int} {x : (Dt × Int)} (F : Fx w G cX11_takeLists RX11 5 (some .boolean) { frames := 6, cells := 0, slots := 0, locals := 129 }) (hX : WF dd m) (hp : PB m 1545 11) (h : fX11_takeLists_37 d a1 v2 = some x) (K : (fun q => q = (d', r)) x) : V w l WF G (QM w G WF (some (mI r)) d' m 0 0) d m 0 0 37 [mA 1545, mI a1, mI v2, mU, mU] [] := by
  unfold fX11_takeLists_37 at h
  refine v_iload_n F dX11_takeLists_37 rfl rfl ?_
  refine v_if_ge F dX11_takeLists_38 rfl (fun hq2 => ?_) (fun hq2 => ?_)
  · rw [if_pos hq2] at h
    refine v_aload_n F dX11_takeLists_46 rfl rfl ?_
    refine gf_X11_284 F dX11_takeLists_47 hp (v := 1577) rfl ?_
    refine v_iload_n F dX11_takeLists_50 rfl rfl ?_
    refine v_iconst F dX11_takeLists_51 ⟨by decide, by decide⟩ ?_
    refine v_iadd F dX11_takeLists_52 ?_
    refine v_iload_n F dX11_takeLists_53 rfl rfl ?_
    obtain ⟨x3, ex3, h⟩ := lv_some h
    refine v_n2 ex3 ?_
    obtain ⟨hi4, h⟩ := ck_some h
    obtain ⟨d5, ed5, h⟩ := sd_some h
    refine v_iast F dX11_takeLists_54 (ar_X11_44 hX hp) hi4 ?_
    refine v_nD ed5 ?_
    refine v_aload_n F dX11_takeLists_55 rfl rfl ?_
    refine v_ldsw (tx := "ABOVE") (a := (-52)) F dX11_takeLists_56 (List.mem_of_getElem? (i := 107) rfl) (by decide) ?_
    obtain ⟨d6, x8, hc7, h⟩ := b2_some h
    refine v_callVv (c := 11) F dX11_takeLists_59 cv_X11_249 rfl (PB.ob hp hX (Nat.le_of_ble_eq_true rfl)) (Nat.le_of_ble_eq_true rfl) rfl (vm_X11_mayWord hp (show isSb (-52) = true from rfl) hc7) rfl (rOk.of rfl) ?_
    refine v_if_eq F dX11_takeLists_62 rfl (fun hq9 => ?_) (fun hq9 => ?_)
    · rw [if_pos hq9] at h
      refine v_fgt (L' := [mA 1545, mI a1, mU, mU, mU]) ⟨Or.inl rfl, Or.inl rfl, Or.inr rfl, Or.inl rfl, Or.inl rfl, trivial⟩ ?_
      exact fX11_takeLists_153_ok F hX hp h K
    · rw [if_neg hq9] at h
      refine v_aload_n F dX11_takeLists_65 rfl rfl ?_
      obtain ⟨d29, x31, hc30, h⟩ := b2_some h
      refine v_callVv (c := 11) F dX11_takeLists_66 cv_X11_228 rfl (PB.ob hp hX (Nat.le_of_ble_eq_true rfl)) (Nat.le_of_ble_eq_true rfl) rfl (vm_X11_takeNumber hp hc30) rfl (rOk.of rfl) ?_
      refine v_if_ne F dX11_takeLists_69 rfl (fun hq32 => ?_) (fun hq32 => ?_)
      · rw [if_neg hq32] at h
        refine v_aload_n F dX11_takeLists_74 rfl rfl ?_
        refine gf_X11_218 F dX11_takeLists_75 hp ?_
        obtain ⟨x33, ex33, h⟩ := lv_some h
        refine v_nI ex33 ?_
        refine v_istore_n F dX11_takeLists_78 rfl (Nat.le_of_ble_eq_true rfl) (L' := [mA 1545, mI a1, mI v2, mI x33, mU]) rfl ?_
        refine v_aload_n F dX11_takeLists_79 rfl rfl ?_
        refine gf_X11_221 F dX11_takeLists_80 hp ?_
        obtain ⟨x34, ex34, h⟩ := lv_some h
        refine v_nI ex34 ?_
        refine v_istore F dX11_takeLists_83 (Nat.le_of_ble_eq_true rfl) (L' := [mA 1545, mI a1, mI v2, mI x33, mI x34]) rfl ?_
        refine v_aload_n F dX11_takeLists_85 rfl rfl ?_
        refine v_bipush F dX11_takeLists_86 rfl ⟨by decide, by decide⟩ ?_
        obtain ⟨d35, x37, hc36, h⟩ := b2_some h
        refine v_callVv (c := 11) F dX11_takeLists_88 cv_X11_275 rfl (PB.ob hp hX (Nat.le_of_ble_eq_true rfl)) (Nat.le_of_ble_eq_true rfl) rfl (vm_X11_takeSign hp hc36) rfl (rOk.of rfl) ?_
        refine v_if_eq F dX11_takeLists_91 rfl (fun hq38 => ?_) (fun hq38 => ?_)
        · rw [if_pos hq38] at h
          refine v_iconst F dX11_takeLists_101 ⟨by decide, by decide⟩ ?_
          cases h
          cases (show _ = (d', r) from K)
          exact v_zret F (Or.inl rfl) dX11_takeLists_102
        · rw [if_neg hq38] at h
          refine v_aload_n F dX11_takeLists_94 rfl rfl ?_
          obtain ⟨d39, x41, hc40, h⟩ := b2_some h
          refine v_callVv (c := 11) F dX11_takeLists_95 cv_X11_228 rfl (PB.ob hp hX (Nat.le_of_ble_eq_true rfl)) (Nat.le_of_ble_eq_true rfl) rfl (vm_X11_takeNumber hp hc40) rfl (rOk.of rfl) ?_
          refine v_if_ne F dX11_takeLists_98 rfl (fun hq42 => ?_) (fun hq42 => ?_)
          · rw [if_neg hq42] at h
            refine v_aload_n F dX11_takeLists_103 rfl rfl ?_
            refine gf_X11_218 F dX11_takeLists_104 hp ?_
            refine v_i2l F dX11_takeLists_107 ?_
            refine v_lconst1 F dX11_takeLists_108 ?_
            refine v_ldc2 (n := 1000) F dX11_takeLists_109 q2712 rfl ⟨by decide, by decide⟩ ?_
            refine v_callSv F dX11_takeLists_112 cs_X11_13 rfl (vm_X11_in) rfl (rOk.of rfl) ?_
            refine v_if_eq F dX11_takeLists_115 rfl (fun hq43 => ?_) (fun hq43 => ?_)
            · rw [if_pos hq43] at h
              refine v_fgt (L' := [mA 1545, mI a1, mU, mI x33, mI x34]) ⟨Or.inl rfl, Or.inl rfl, Or.inr rfl, Or.inl rfl, Or.inl rfl, trivial⟩ ?_
              exact fX11_takeLists_126_ok F hX hp h K
            · rw [if_neg hq43] at h
              refine v_iload_n F dX11_takeLists_118 rfl rfl ?_
              refine v_aload_n F dX11_takeLists_119 rfl rfl ?_
              refine gf_X11_218 F dX11_takeLists_120 hp ?_
              refine v_icmp_lt F dX11_takeLists_123 rfl (fun hq52 => ?_) (fun hq52 => ?_)
              · rw [if_pos hq52] at h
                refine v_fgt (L' := [mA 1545, mI a1, mU, mI x33, mU]) ⟨Or.inl rfl, Or.inl rfl, Or.inr rfl, Or.inl rfl, Or.inr rfl, trivial⟩ ?_
                exact fX11_takeLists_132_ok F hX hp h K
              · rw [if_neg hq52] at h
                refine v_fgt (L' := [mA 1545, mI a1, mU, mI x33, mI x34]) ⟨Or.inl rfl, Or.inl rfl, Or.inr rfl, Or.inl rfl, Or.inl rfl, trivial⟩ ?_
                exact fX11_takeLists_126_ok F hX hp h K
          · rw [if_pos hq42] at h
            refine v_iconst F dX11_takeLists_101 ⟨by decide, by decide⟩ ?_
            cases h
            cases (show _ = (d', r) from K)
            exact v_zret F (Or.inl rfl) dX11_takeLists_102
      · rw [if_pos hq32] at h
        refine v_iconst F dX11_takeLists_72 ⟨by decide, by decide⟩ ?_
        cases h
        cases (show _ = (d', r) from K)
        exact v_zret F (Or.inl rfl) dX11_takeLists_73
  · rw [if_neg hq2] at h
    refine v_aload_n F dX11_takeLists_41 rfl rfl ?_
    obtain ⟨d53, x55, hc54, h⟩ := b2_some h
    refine v_callVv (c := 11) F dX11_takeLists_42 cv_X11_210 rfl (PB.ob hp hX (Nat.le_of_ble_eq_true rfl)) (Nat.le_of_ble_eq_true rfl) rfl (vm_X11_miss hp hc54) rfl (rOk.of rfl) ?_
    obtain ⟨hb, h⟩ := ck_some h
    cases h
    cases (show _ = (d', r) from K)
    exact v_zret F hb dX11_takeLists_45
theorem fX11_takeLists_4f_ok {w : Wd} {l : Launch} {G : Cx} {m dd : Dt} {a1 : Int} {d' : Dt} {r : Int} {s : Dt × Int × Int} {x : ((Dt × Int × Int) ⊕ (Dt × Int))} (F : Fx w G cX11_takeLists RX11 5 (some .boolean) { frames := 6, cells := 0, slots := 0, locals := 129 }) (hX : WF dd m) (hp : PB m 1545 11) (h : fX11_takeLists_4f a1 s = some x) (K : (Sum.elim (fX11_takeLists_4P w l G (QM w G WF (some (mI r)) d' m 0 0) m a1) (fun q => q = (d', r))) x) : V w l WF G (QM w G WF (some (mI r)) d' m 0 0) s.1 m 0 0 4 [mA 1545, mI a1, mI (s.2.1), mI (s.2.2), mU] [] := by
  obtain ⟨d, v2, v3⟩ := s
  unfold fX11_takeLists_4f at h
  dsimp only at h
  refine v_iload_n F dX11_takeLists_4 rfl rfl ?_
  refine v_bipush F dX11_takeLists_5 rfl ⟨by decide, by decide⟩ ?_
  refine v_icmp_gt F dX11_takeLists_7 rfl (fun hq1 => ?_) (fun hq1 => ?_)
  · rw [if_pos hq1] at h
    obtain ⟨z, hu, ez⟩ := up_some h
    clear h
    subst ez
    have h := hu
    clear hu
    refine v_fgt (L' := [mA 1545, mI a1, mI v2, mU, mU]) ⟨Or.inl rfl, Or.inl rfl, Or.inl rfl, Or.inr rfl, Or.inl rfl, trivial⟩ ?_
    exact fX11_takeLists_37_ok F hX hp h K
  · rw [if_neg hq1] at h
    refine v_iload_n F dX11_takeLists_10 rfl rfl ?_
    refine v_if_ge F dX11_takeLists_11 rfl (fun hq56 => ?_) (fun hq56 => ?_)
    · rw [if_pos hq56] at h
      obtain ⟨z, hu, ez⟩ := up_some h
      clear h
      subst ez
      have h := hu
      clear hu
      refine v_fgt (L' := [mA 1545, mI a1, mI v2, mU, mU]) ⟨Or.inl rfl, Or.inl rfl, Or.inl rfl, Or.inr rfl, Or.inl rfl, trivial⟩ ?_
      exact fX11_takeLists_37_ok F hX hp h K
    · rw [if_neg hq56] at h
      refine v_aload_n F dX11_takeLists_14 rfl rfl ?_
      refine v_iload_n F dX11_takeLists_15 rfl rfl ?_
      refine v_callSv F dX11_takeLists_16 cs_X11_399 rfl (vm_X11_wayName) rfl (rOk.of rfl) ?_
      obtain ⟨d57, x59, hc58, h⟩ := b2_some h
      refine v_callVv (c := 11) F dX11_takeLists_19 cv_X11_249 rfl (PB.ob hp hX (Nat.le_of_ble_eq_true rfl)) (Nat.le_of_ble_eq_true rfl) rfl (vm_X11_mayWord hp (ps_X11_wayName) hc58) rfl (rOk.of rfl) ?_
      refine v_if_eq F dX11_takeLists_22 rfl (fun hq60 => ?_) (fun hq60 => ?_)
      · rw [if_pos hq60] at h
        refine v_iconst F dX11_takeLists_29 ⟨by decide, by decide⟩ ?_
        refine v_istore_n F dX11_takeLists_30 rfl (Nat.le_of_ble_eq_true rfl) (L' := [mA 1545, mI a1, mI (-1), mI v3, mU]) rfl ?_
        obtain ⟨x61, ex61, h⟩ := lv_some h
        refine v_iincN F dX11_takeLists_31 (Nat.le_of_ble_eq_true rfl) rfl ex61 (L' := [mA 1545, mI a1, mI (-1), mI x61, mU]) rfl ?_
        refine v_goto F dX11_takeLists_34 rfl ?_
        cases h
        exact K
      · rw [if_neg hq60] at h
        refine v_iload_n F dX11_takeLists_25 rfl rfl ?_
        refine v_goto F dX11_takeLists_26 rfl ?_
        refine v_istore_n F dX11_takeLists_30 rfl (Nat.le_of_ble_eq_true rfl) (L' := [mA 1545, mI a1, mI v3, mI v3, mU]) rfl ?_
        obtain ⟨x62, ex62, h⟩ := lv_some h
        refine v_iincN F dX11_takeLists_31 (Nat.le_of_ble_eq_true rfl) rfl ex62 (L' := [mA 1545, mI a1, mI v3, mI x62, mU]) rfl ?_
        refine v_goto F dX11_takeLists_34 rfl ?_
        cases h
        exact K
theorem fX11_takeLists_4_ok {w : Wd} {l : Launch} {G : Cx} {d m dd : Dt} {a1 v2 v3 : Int} {d' : Dt} {r : Int} {x : (Dt × Int)} (F : Fx w G cX11_takeLists RX11 5 (some .boolean) { frames := 6, cells := 0, slots := 0, locals := 129 }) (hX : WF dd m) (hp : PB m 1545 11) (h : fX11_takeLists_4 d a1 v2 v3 = some x) (K : (fun q => q = (d', r)) x) : V w l WF G (QM w G WF (some (mI r)) d' m 0 0) d m 0 0 4 [mA 1545, mI a1, mI v2, mI v3, mU] [] := by
  unfold fX11_takeLists_4 at h
  exact loop_ok (P := fX11_takeLists_4P w l G (QM w G WF (some (mI r)) d' m 0 0) m a1) (fun s x hx h1 h2 => fX11_takeLists_4f_ok F hX hp hx (by
    cases x with
    | inl s' => exact h1 s' rfl
    | inr z => cases h2 z rfl; exact K)) h
theorem vm_X11_takeLists {w : Wd} {l : Launch} {d m : Dt} {a1 : Int} {d' : Dt} {r : Int} (hp : PB m 1545 11) (h : fX11_takeLists d a1 = some (d', r)) : VM w l WF yX11_takeLists cX11_takeLists 5 (some .boolean) 6 129 0 0 d m [mA 1545, mI a1] (some (mI r)) d' m := by
  obtain ⟨x, h, K⟩ : ∃ x, fX11_takeLists d a1 = some x ∧ x = (d', r) := ⟨_, h, rfl⟩
  refine VM.of (L := [mA 1545, mI a1, mU, mU, mU]) (by decide +kernel) rfl (Nat.le_of_ble_eq_true rfl) fun G F _ => v_fact fun _ hX _ _ => ?_
  unfold fX11_takeLists at h
  refine v_iconst F dX11_takeLists_0 ⟨by decide, by decide⟩ ?_
  refine v_istore_n F dX11_takeLists_1 rfl (Nat.le_of_ble_eq_true rfl) (L' := [mA 1545, mI a1, mI (-1), mU, mU]) rfl ?_
  refine v_iconst F dX11_takeLists_2 ⟨by decide, by decide⟩ ?_
  refine v_istore_n F dX11_takeLists_3 rfl (Nat.le_of_ble_eq_true rfl) (L' := [mA 1545, mI a1, mI (-1), mI 0, mU]) rfl ?_
  exact fX11_takeLists_4_ok F hX hp h K
def fX11_takeContest_19P (w : Wd) (l : Launch) (G : Cx) (Q : State → Prop) (m : Dt) (v2 : Int) (s : Dt × Int) : Prop := V w l WF G Q s.1 m 0 0 19 [mA 1545, mU, mI v2, mI (s.2), mU] []
def fX11_takeContest_129P (w : Wd) (l : Launch) (G : Cx) (Q : State → Prop) (m : Dt) (v2 : Int) (s : Dt × Int × Int) : Prop := V w l WF G Q s.1 m 0 0 129 [mA 1545, mU, mI v2, mI (s.2.1), mI (s.2.2)] []
theorem fX11_takeContest_250_ok {w : Wd} {l : Launch} {G : Cx} {d m dd : Dt} {v2 v3 : Int} {d' : Dt} {r : Int} {x : (Dt × Int)} (F : Fx w G cX11_takeContest RX11 5 (some .boolean) { frames := 7, cells := 0, slots := 0, locals := 153 }) (hX : WF dd m) (hp : PB m 1545 11) (h : fX11_takeContest_250 d v2 v3 = some x) (K : (fun q => q = (d', r)) x) : V w l WF G (QM w G WF (some (mI r)) d' m 0 0) d m 0 0 250 [mA 1545, mU, mI v2, mI v3, mU] [] := by
  unfold fX11_takeContest_250 at h
  refine v_iload_n F dX11_takeContest_250 rfl rfl ?_
  refine v_bipush F dX11_takeContest_251 rfl ⟨by decide, by decide⟩ ?_
  refine v_icmp_ne F dX11_takeContest_253 rfl (fun hq44 => ?_) (fun hq44 => ?_)
  · rw [if_neg hq44] at h
    refine v_iconst F dX11_takeContest_264 ⟨by decide, by decide⟩ ?_
    refine v_goto F dX11_takeContest_265 rfl ?_
    cases h
    cases (show _ = (d', r) from K)
    exact v_zret F (Or.inr rfl) dX11_takeContest_269
  · rw [if_pos hq44] at h
    refine v_aload_n F dX11_takeContest_256 rfl rfl ?_
    refine v_iload_n F dX11_takeContest_257 rfl rfl ?_
    obtain ⟨d45, x47, hc46, h⟩ := b2_some h
    refine v_callVv (c := 11) F dX11_takeContest_258 cv_X11_396 rfl (PB.ob hp hX (Nat.le_of_ble_eq_true rfl)) (Nat.le_of_ble_eq_true rfl) rfl (vm_X11_takeLists hp hc46) rfl (rOk.of rfl) ?_
    refine v_if_eq F dX11_takeContest_261 rfl (fun hq48 => ?_) (fun hq48 => ?_)
    · rw [if_pos hq48] at h
      refine v_iconst F dX11_takeContest_268 ⟨by decide, by decide⟩ ?_
      cases h
      cases (show _ = (d', r) from K)
      exact v_zret F (Or.inl rfl) dX11_takeContest_269
    · rw [if_neg hq48] at h
      refine v_iconst F dX11_takeContest_264 ⟨by decide, by decide⟩ ?_
      refine v_goto F dX11_takeContest_265 rfl ?_
      cases h
      cases (show _ = (d', r) from K)
      exact v_zret F (Or.inr rfl) dX11_takeContest_269
theorem fX11_takeContest_249_ok {w : Wd} {l : Launch} {G : Cx} {d m dd : Dt} {v2 v3 s1 s2 : Int} {d' : Dt} {r : Int} {x : (Dt × Int)} (F : Fx w G cX11_takeContest RX11 5 (some .boolean) { frames := 7, cells := 0, slots := 0, locals := 153 }) (hX : WF dd m) (hp : PB m 1545 11) (h : fX11_takeContest_249 d v2 v3 s1 s2 = some x) (K : (fun q => q = (d', r)) x) : V w l WF G (QM w G WF (some (mI r)) d' m 0 0) d m 0 0 249 [mA 1545, mU, mI v2, mI v3, mU] [mI s2, mI s1, mA 1577] := by
  unfold fX11_takeContest_249 at h
  obtain ⟨hi42, h⟩ := ck_some h
  obtain ⟨d43, ed43, h⟩ := sd_some h
  refine v_iast F dX11_takeContest_249 (ar_X11_44 hX hp) hi42 ?_
  refine v_nD ed43 ?_
  exact fX11_takeContest_250_ok F hX hp h K
theorem fX11_takeContest_232_ok {w : Wd} {l : Launch} {G : Cx} {d m dd : Dt} {v2 v3 v4 : Int} {d' : Dt} {r : Int} {x : (Dt × Int)} (F : Fx w G cX11_takeContest RX11 5 (some .boolean) { frames := 7, cells := 0, slots := 0, locals := 153 }) (hX : WF dd m) (hp : PB m 1545 11) (h : fX11_takeContest_232 d v2 v3 v4 = some x) (K : (fun q => q = (d', r)) x) : V w l WF G (QM w G WF (some (mI r)) d' m 0 0) d m 0 0 232 [mA 1545, mU, mI v2, mI v3, mI v4] [] := by
  unfold fX11_takeContest_232 at h
  refine v_aload_n F dX11_takeContest_232 rfl rfl ?_
  refine gf_X11_284 F dX11_takeContest_233 hp (v := 1577) rfl ?_
  refine v_iload_n F dX11_takeContest_236 rfl rfl ?_
  refine v_iconst F dX11_takeContest_237 ⟨by decide, by decide⟩ ?_
  refine v_iadd F dX11_takeContest_238 ?_
  refine v_iload F dX11_takeContest_239 rfl ?_
  refine v_if_eq F dX11_takeContest_241 rfl (fun hq41 => ?_) (fun hq41 => ?_)
  · rw [if_pos hq41] at h
    refine v_iconst F dX11_takeContest_248 ⟨by decide, by decide⟩ ?_
    refine v_fgt (L' := [mA 1545, mU, mI v2, mI v3, mU]) ⟨Or.inl rfl, Or.inl rfl, Or.inl rfl, Or.inl rfl, Or.inr rfl, trivial⟩ ?_
    exact fX11_takeContest_249_ok F hX hp h K
  · rw [if_neg hq41] at h
    refine v_iconst F dX11_takeContest_244 ⟨by decide, by decide⟩ ?_
    refine v_goto F dX11_takeContest_245 rfl ?_
    refine v_fgt (L' := [mA 1545, mU, mI v2, mI v3, mU]) ⟨Or.inl rfl, Or.inl rfl, Or.inl rfl, Or.inl rfl, Or.inr rfl, trivial⟩ ?_
    exact fX11_takeContest_249_ok F hX hp h K
theorem fX11_takeContest_206_ok {w : Wd} {l : Launch} {G : Cx} {d m dd : Dt} {v2 v3 : Int} {d' : Dt} {r : Int} {x : (Dt × Int)} (F : Fx w G cX11_takeContest RX11 5 (some .boolean) { frames := 7, cells := 0, slots := 0, locals := 153 }) (hX : WF dd m) (hp : PB m 1545 11) (h : fX11_takeContest_206 d v2 v3 = some x) (K : (fun q => q = (d', r)) x) : V w l WF G (QM w G WF (some (mI r)) d' m 0 0) d m 0 0 206 [mA 1545, mU, mI v2, mI v3, mU] [] := by
  unfold fX11_takeContest_206 at h
  refine v_aload_n F dX11_takeContest_206 rfl rfl ?_
  refine v_ldsw (tx := "HARE") (a := (-112)) F dX11_takeContest_207 (List.mem_of_getElem? (i := 98) rfl) (by decide) ?_
  obtain ⟨d37, x39, hc38, h⟩ := b2_some h
  refine v_callVv (c := 11) F dX11_takeContest_210 cv_X11_249 rfl (PB.ob hp hX (Nat.le_of_ble_eq_true rfl)) (Nat.le_of_ble_eq_true rfl) rfl (vm_X11_mayWord hp (show isSb (-112) = true from rfl) hc38) rfl (rOk.of rfl) ?_
  refine v_istore F dX11_takeContest_213 (Nat.le_of_ble_eq_true rfl) (L' := [mA 1545, mU, mI v2, mI v3, mI x39]) rfl ?_
  refine v_iload F dX11_takeContest_215 rfl ?_
  refine v_if_ne F dX11_takeContest_217 rfl (fun hq40 => ?_) (fun hq40 => ?_)
  · rw [if_neg hq40] at h
    exact fX11_takeContest_232_ok F hX hp h K
  · rw [if_pos hq40] at h
    refine v_aload_n F dX11_takeContest_220 rfl rfl ?_
    refine v_ldsw (tx := "DROOP") (a := (-114)) F dX11_takeContest_221 (List.mem_of_getElem? (i := 99) rfl) (by decide) ?_
    obtain ⟨d49, x51, hc50, h⟩ := b2_some h
    refine v_callVv (c := 11) F dX11_takeContest_224 cv_X11_386 rfl (PB.ob hp hX (Nat.le_of_ble_eq_true rfl)) (Nat.le_of_ble_eq_true rfl) rfl (vm_X11_takeWord hp (show isSb (-114) = true from rfl) hc50) rfl (rOk.of rfl) ?_
    refine v_if_ne F dX11_takeContest_227 rfl (fun hq52 => ?_) (fun hq52 => ?_)
    · rw [if_neg hq52] at h
      exact fX11_takeContest_232_ok F hX hp h K
    · rw [if_pos hq52] at h
      refine v_iconst F dX11_takeContest_230 ⟨by decide, by decide⟩ ?_
      cases h
      cases (show _ = (d', r) from K)
      exact v_zret F (Or.inl rfl) dX11_takeContest_231
theorem fX11_takeContest_165_ok {w : Wd} {l : Launch} {G : Cx} {d m dd : Dt} {v2 v3 : Int} {d' : Dt} {r : Int} {x : (Dt × Int)} (F : Fx w G cX11_takeContest RX11 5 (some .boolean) { frames := 7, cells := 0, slots := 0, locals := 153 }) (hX : WF dd m) (hp : PB m 1545 11) (h : fX11_takeContest_165 d v2 v3 = some x) (K : (fun q => q = (d', r)) x) : V w l WF G (QM w G WF (some (mI r)) d' m 0 0) d m 0 0 165 [mA 1545, mU, mI v2, mI v3, mU] [] := by
  unfold fX11_takeContest_165 at h
  refine v_iload_n F dX11_takeContest_165 rfl rfl ?_
  refine v_if_ge F dX11_takeContest_166 rfl (fun hq31 => ?_) (fun hq31 => ?_)
  · rw [if_pos hq31] at h
    refine v_aload_n F dX11_takeContest_174 rfl rfl ?_
    refine gf_X11_284 F dX11_takeContest_175 hp (v := 1577) rfl ?_
    refine v_iload_n F dX11_takeContest_178 rfl rfl ?_
    refine v_iconst F dX11_takeContest_179 ⟨by decide, by decide⟩ ?_
    refine v_iadd F dX11_takeContest_180 ?_
    refine v_iload_n F dX11_takeContest_181 rfl rfl ?_
    obtain ⟨x32, ex32, h⟩ := lv_some h
    refine v_n2 ex32 ?_
    obtain ⟨hi33, h⟩ := ck_some h
    obtain ⟨d34, ed34, h⟩ := sd_some h
    refine v_iast F dX11_takeContest_182 (ar_X11_44 hX hp) hi33 ?_
    refine v_nD ed34 ?_
    refine v_aload_n F dX11_takeContest_183 rfl rfl ?_
    refine gf_X11_281 F dX11_takeContest_184 hp (v := 1576) rfl ?_
    refine v_bipush F dX11_takeContest_187 rfl ⟨by decide, by decide⟩ ?_
    refine v_dup2_IA F dX11_takeContest_189 ?_
    refine v_iald F dX11_takeContest_190 (ar_X11_43 hX hp) ⟨by decide, by decide⟩ ?_
    refine v_iconst F dX11_takeContest_191 ⟨by decide, by decide⟩ ?_
    refine v_iadd F dX11_takeContest_192 ?_
    obtain ⟨d35, ed35, h⟩ := sd_some h
    refine v_iast F dX11_takeContest_193 (ar_X11_43 hX hp) ⟨by decide, by decide⟩ ?_
    refine v_nD ed35 ?_
    refine v_iload_n F dX11_takeContest_194 rfl rfl ?_
    refine v_bipush F dX11_takeContest_195 rfl ⟨by decide, by decide⟩ ?_
    refine v_icmp_eq F dX11_takeContest_197 rfl (fun hq36 => ?_) (fun hq36 => ?_)
    · rw [if_pos hq36] at h
      exact fX11_takeContest_206_ok F hX hp h K
    · rw [if_neg hq36] at h
      refine v_iload_n F dX11_takeContest_200 rfl rfl ?_
      refine v_bipush F dX11_takeContest_201 rfl ⟨by decide, by decide⟩ ?_
      refine v_icmp_ne F dX11_takeContest_203 rfl (fun hq53 => ?_) (fun hq53 => ?_)
      · rw [if_neg hq53] at h
        exact fX11_takeContest_250_ok F hX hp h K
      · rw [if_pos hq53] at h
        exact fX11_takeContest_206_ok F hX hp h K
  · rw [if_neg hq31] at h
    refine v_aload_n F dX11_takeContest_169 rfl rfl ?_
    obtain ⟨d54, x56, hc55, h⟩ := b2_some h
    refine v_callVv (c := 11) F dX11_takeContest_170 cv_X11_210 rfl (PB.ob hp hX (Nat.le_of_ble_eq_true rfl)) (Nat.le_of_ble_eq_true rfl) rfl (vm_X11_miss hp hc55) rfl (rOk.of rfl) ?_
    obtain ⟨hb, h⟩ := ck_some h
    cases h
    cases (show _ = (d', r) from K)
    exact v_zret F hb dX11_takeContest_173
theorem fX11_takeContest_129f_ok {w : Wd} {l : Launch} {G : Cx} {m dd : Dt} {v2 : Int} {d' : Dt} {r : Int} {s : Dt × Int × Int} {x : ((Dt × Int × Int) ⊕ (Dt × Int))} (F : Fx w G cX11_takeContest RX11 5 (some .boolean) { frames := 7, cells := 0, slots := 0, locals := 153 }) (hX : WF dd m) (hp : PB m 1545 11) (h : fX11_takeContest_129f v2 s = some x) (K : (Sum.elim (fX11_takeContest_129P w l G (QM w G WF (some (mI r)) d' m 0 0) m v2) (fun q => q = (d', r))) x) : V w l WF G (QM w G WF (some (mI r)) d' m 0 0) s.1 m 0 0 129 [mA 1545, mU, mI v2, mI (s.2.1), mI (s.2.2)] [] := by
  obtain ⟨d, v3, v4⟩ := s
  unfold fX11_takeContest_129f at h
  dsimp only at h
  refine v_iload F dX11_takeContest_129 rfl ?_
  refine v_bipush F dX11_takeContest_131 rfl ⟨by decide, by decide⟩ ?_
  refine v_icmp_gt F dX11_takeContest_133 rfl (fun hq30 => ?_) (fun hq30 => ?_)
  · rw [if_pos hq30] at h
    obtain ⟨z, hu, ez⟩ := up_some h
    clear h
    subst ez
    have h := hu
    clear hu
    refine v_fgt (L' := [mA 1545, mU, mI v2, mI v3, mU]) ⟨Or.inl rfl, Or.inl rfl, Or.inl rfl, Or.inl rfl, Or.inr rfl, trivial⟩ ?_
    exact fX11_takeContest_165_ok F hX hp h K
  · rw [if_neg hq30] at h
    refine v_iload_n F dX11_takeContest_136 rfl rfl ?_
    refine v_if_ge F dX11_takeContest_137 rfl (fun hq57 => ?_) (fun hq57 => ?_)
    · rw [if_pos hq57] at h
      obtain ⟨z, hu, ez⟩ := up_some h
      clear h
      subst ez
      have h := hu
      clear hu
      refine v_fgt (L' := [mA 1545, mU, mI v2, mI v3, mU]) ⟨Or.inl rfl, Or.inl rfl, Or.inl rfl, Or.inl rfl, Or.inr rfl, trivial⟩ ?_
      exact fX11_takeContest_165_ok F hX hp h K
    · rw [if_neg hq57] at h
      refine v_aload_n F dX11_takeContest_140 rfl rfl ?_
      refine v_iload F dX11_takeContest_141 rfl ?_
      refine v_callSv F dX11_takeContest_143 cs_X11_393 rfl (vm_X11_ruleName) rfl (rOk.of rfl) ?_
      obtain ⟨d58, x60, hc59, h⟩ := b2_some h
      refine v_callVv (c := 11) F dX11_takeContest_146 cv_X11_249 rfl (PB.ob hp hX (Nat.le_of_ble_eq_true rfl)) (Nat.le_of_ble_eq_true rfl) rfl (vm_X11_mayWord hp (ps_X11_ruleName) hc59) rfl (rOk.of rfl) ?_
      refine v_if_eq F dX11_takeContest_149 rfl (fun hq61 => ?_) (fun hq61 => ?_)
      · rw [if_pos hq61] at h
        refine v_iconst F dX11_takeContest_157 ⟨by decide, by decide⟩ ?_
        refine v_istore_n F dX11_takeContest_158 rfl (Nat.le_of_ble_eq_true rfl) (L' := [mA 1545, mU, mI v2, mI (-1), mI v4]) rfl ?_
        obtain ⟨x62, ex62, h⟩ := lv_some h
        refine v_iincN F dX11_takeContest_159 (Nat.le_of_ble_eq_true rfl) rfl ex62 (L' := [mA 1545, mU, mI v2, mI (-1), mI x62]) rfl ?_
        refine v_goto F dX11_takeContest_162 rfl ?_
        cases h
        exact K
      · rw [if_neg hq61] at h
        refine v_iload F dX11_takeContest_152 rfl ?_
        refine v_goto F dX11_takeContest_154 rfl ?_
        refine v_istore_n F dX11_takeContest_158 rfl (Nat.le_of_ble_eq_true rfl) (L' := [mA 1545, mU, mI v2, mI v4, mI v4]) rfl ?_
        obtain ⟨x63, ex63, h⟩ := lv_some h
        refine v_iincN F dX11_takeContest_159 (Nat.le_of_ble_eq_true rfl) rfl ex63 (L' := [mA 1545, mU, mI v2, mI v4, mI x63]) rfl ?_
        refine v_goto F dX11_takeContest_162 rfl ?_
        cases h
        exact K
theorem fX11_takeContest_129_ok {w : Wd} {l : Launch} {G : Cx} {d m dd : Dt} {v2 v3 v4 : Int} {d' : Dt} {r : Int} {x : (Dt × Int)} (F : Fx w G cX11_takeContest RX11 5 (some .boolean) { frames := 7, cells := 0, slots := 0, locals := 153 }) (hX : WF dd m) (hp : PB m 1545 11) (h : fX11_takeContest_129 d v2 v3 v4 = some x) (K : (fun q => q = (d', r)) x) : V w l WF G (QM w G WF (some (mI r)) d' m 0 0) d m 0 0 129 [mA 1545, mU, mI v2, mI v3, mI v4] [] := by
  unfold fX11_takeContest_129 at h
  exact loop_ok (P := fX11_takeContest_129P w l G (QM w G WF (some (mI r)) d' m 0 0) m v2) (fun s x hx h1 h2 => fX11_takeContest_129f_ok F hX hp hx (by
    cases x with
    | inl s' => exact h1 s' rfl
    | inr z => cases h2 z rfl; exact K)) h
theorem fX11_takeContest_19f_ok {w : Wd} {l : Launch} {G : Cx} {m dd : Dt} {v2 : Int} {d' : Dt} {r : Int} {s : Dt × Int} {x : ((Dt × Int) ⊕ (Dt × Int))} (F : Fx w G cX11_takeContest RX11 5 (some .boolean) { frames := 7, cells := 0, slots := 0, locals := 153 }) (hX : WF dd m) (hp : PB m 1545 11) (h : fX11_takeContest_19f v2 s = some x) (K : (Sum.elim (fX11_takeContest_19P w l G (QM w G WF (some (mI r)) d' m 0 0) m v2) (fun q => q = (d', r))) x) : V w l WF G (QM w G WF (some (mI r)) d' m 0 0) s.1 m 0 0 19 [mA 1545, mU, mI v2, mI (s.2), mU] [] := by
  obtain ⟨d, v3⟩ := s
  unfold fX11_takeContest_19f at h
  dsimp only at h
  refine v_iload_n F dX11_takeContest_19 rfl rfl ?_
  refine v_bipush F dX11_takeContest_20 rfl ⟨by decide, by decide⟩ ?_
  refine v_icmp_ge F dX11_takeContest_22 rfl (fun hq3 => ?_) (fun hq3 => ?_)
  · rw [if_pos hq3] at h
    obtain ⟨z, hu, ez⟩ := up_some h
    clear h
    subst ez
    have h := hu
    clear hu
    refine v_aload_n F dX11_takeContest_40 rfl rfl ?_
    refine v_ldsw (tx := "IN") (a := (-28)) F dX11_takeContest_41 (List.mem_of_getElem? (i := 75) rfl) (by decide) ?_
    obtain ⟨d4, x6, hc5, h⟩ := b2_some h
    refine v_callVv (c := 11) F dX11_takeContest_44 cv_X11_386 rfl (PB.ob hp hX (Nat.le_of_ble_eq_true rfl)) (Nat.le_of_ble_eq_true rfl) rfl (vm_X11_takeWord hp (show isSb (-28) = true from rfl) hc5) rfl (rOk.of rfl) ?_
    refine v_if_eq F dX11_takeContest_47 rfl (fun hq7 => ?_) (fun hq7 => ?_)
    · rw [if_pos hq7] at h
      refine v_iconst F dX11_takeContest_64 ⟨by decide, by decide⟩ ?_
      cases h
      cases (show _ = (d', r) from K)
      exact v_zret F (Or.inl rfl) dX11_takeContest_65
    · rw [if_neg hq7] at h
      refine v_aload_n F dX11_takeContest_50 rfl rfl ?_
      refine v_iconst F dX11_takeContest_51 ⟨by decide, by decide⟩ ?_
      refine v_aload_n F dX11_takeContest_52 rfl rfl ?_
      refine gf_X11_61 F dX11_takeContest_53 hp ?_
      refine v_iconst F dX11_takeContest_56 ⟨by decide, by decide⟩ ?_
      refine v_isub F dX11_takeContest_57 ?_
      obtain ⟨d8, x10, hc9, h⟩ := b2_some h
      refine v_callVv (c := 11) F dX11_takeContest_58 cv_X11_301 rfl (PB.ob hp hX (Nat.le_of_ble_eq_true rfl)) (Nat.le_of_ble_eq_true rfl) rfl (vm_X11_takeWithin hp hc9) rfl (rOk.of rfl) ?_
      refine v_if_ne F dX11_takeContest_61 rfl (fun hq11 => ?_) (fun hq11 => ?_)
      · rw [if_neg hq11] at h
        refine v_aload_n F dX11_takeContest_66 rfl rfl ?_
        refine gf_X11_284 F dX11_takeContest_67 hp (v := 1577) rfl ?_
        refine v_iload_n F dX11_takeContest_70 rfl rfl ?_
        refine v_iconst F dX11_takeContest_71 ⟨by decide, by decide⟩ ?_
        refine v_iadd F dX11_takeContest_72 ?_
        refine v_aload_n F dX11_takeContest_73 rfl rfl ?_
        refine gf_X11_218 F dX11_takeContest_74 hp ?_
        obtain ⟨x12, ex12, h⟩ := lv_some h
        refine v_n2 ex12 ?_
        obtain ⟨hi13, h⟩ := ck_some h
        obtain ⟨d14, ed14, h⟩ := sd_some h
        refine v_iast F dX11_takeContest_77 (ar_X11_44 hX hp) hi13 ?_
        refine v_nD ed14 ?_
        refine v_aload_n F dX11_takeContest_78 rfl rfl ?_
        refine v_ldsw (tx := "SEATS") (a := (-30)) F dX11_takeContest_79 (List.mem_of_getElem? (i := 81) rfl) (by decide) ?_
        obtain ⟨d15, x17, hc16, h⟩ := b2_some h
        refine v_callVv (c := 11) F dX11_takeContest_82 cv_X11_386 rfl (PB.ob hp hX (Nat.le_of_ble_eq_true rfl)) (Nat.le_of_ble_eq_true rfl) rfl (vm_X11_takeWord hp (show isSb (-30) = true from rfl) hc16) rfl (rOk.of rfl) ?_
        refine v_if_eq F dX11_takeContest_85 rfl (fun hq18 => ?_) (fun hq18 => ?_)
        · rw [if_pos hq18] at h
          refine v_iconst F dX11_takeContest_98 ⟨by decide, by decide⟩ ?_
          cases h
          cases (show _ = (d', r) from K)
          exact v_zret F (Or.inl rfl) dX11_takeContest_99
        · rw [if_neg hq18] at h
          refine v_aload_n F dX11_takeContest_88 rfl rfl ?_
          refine v_iconst F dX11_takeContest_89 ⟨by decide, by decide⟩ ?_
          refine v_bipush F dX11_takeContest_90 rfl ⟨by decide, by decide⟩ ?_
          obtain ⟨d19, x21, hc20, h⟩ := b2_some h
          refine v_callVv (c := 11) F dX11_takeContest_92 cv_X11_301 rfl (PB.ob hp hX (Nat.le_of_ble_eq_true rfl)) (Nat.le_of_ble_eq_true rfl) rfl (vm_X11_takeWithin hp hc20) rfl (rOk.of rfl) ?_
          refine v_if_ne F dX11_takeContest_95 rfl (fun hq22 => ?_) (fun hq22 => ?_)
          · rw [if_neg hq22] at h
            refine v_aload_n F dX11_takeContest_100 rfl rfl ?_
            refine gf_X11_284 F dX11_takeContest_101 hp (v := 1577) rfl ?_
            refine v_iload_n F dX11_takeContest_104 rfl rfl ?_
            refine v_iconst F dX11_takeContest_105 ⟨by decide, by decide⟩ ?_
            refine v_iadd F dX11_takeContest_106 ?_
            refine v_aload_n F dX11_takeContest_107 rfl rfl ?_
            refine gf_X11_218 F dX11_takeContest_108 hp ?_
            obtain ⟨x23, ex23, h⟩ := lv_some h
            refine v_n2 ex23 ?_
            obtain ⟨hi24, h⟩ := ck_some h
            obtain ⟨d25, ed25, h⟩ := sd_some h
            refine v_iast F dX11_takeContest_111 (ar_X11_44 hX hp) hi24 ?_
            refine v_nD ed25 ?_
            refine v_aload_n F dX11_takeContest_112 rfl rfl ?_
            refine v_ldsw (tx := "BY") (a := (-32)) F dX11_takeContest_113 (List.mem_of_getElem? (i := 82) rfl) (by decide) ?_
            obtain ⟨d26, x28, hc27, h⟩ := b2_some h
            refine v_callVv (c := 11) F dX11_takeContest_116 cv_X11_386 rfl (PB.ob hp hX (Nat.le_of_ble_eq_true rfl)) (Nat.le_of_ble_eq_true rfl) rfl (vm_X11_takeWord hp (show isSb (-32) = true from rfl) hc27) rfl (rOk.of rfl) ?_
            refine v_if_ne F dX11_takeContest_119 rfl (fun hq29 => ?_) (fun hq29 => ?_)
            · rw [if_neg hq29] at h
              refine v_iconst F dX11_takeContest_124 ⟨by decide, by decide⟩ ?_
              refine v_istore_n F dX11_takeContest_125 rfl (Nat.le_of_ble_eq_true rfl) (L' := [mA 1545, mU, mI v2, mI (-1), mU]) rfl ?_
              refine v_iconst F dX11_takeContest_126 ⟨by decide, by decide⟩ ?_
              refine v_istore F dX11_takeContest_127 (Nat.le_of_ble_eq_true rfl) (L' := [mA 1545, mU, mI v2, mI (-1), mI 0]) rfl ?_
              exact fX11_takeContest_129_ok F hX hp h K
            · rw [if_pos hq29] at h
              refine v_iconst F dX11_takeContest_122 ⟨by decide, by decide⟩ ?_
              cases h
              cases (show _ = (d', r) from K)
              exact v_zret F (Or.inl rfl) dX11_takeContest_123
          · rw [if_pos hq22] at h
            refine v_iconst F dX11_takeContest_98 ⟨by decide, by decide⟩ ?_
            cases h
            cases (show _ = (d', r) from K)
            exact v_zret F (Or.inl rfl) dX11_takeContest_99
      · rw [if_pos hq11] at h
        refine v_iconst F dX11_takeContest_64 ⟨by decide, by decide⟩ ?_
        cases h
        cases (show _ = (d', r) from K)
        exact v_zret F (Or.inl rfl) dX11_takeContest_65
  · rw [if_neg hq3] at h
    refine v_aload_n F dX11_takeContest_25 rfl rfl ?_
    refine gf_X11_284 F dX11_takeContest_26 hp (v := 1577) rfl ?_
    refine v_iload_n F dX11_takeContest_29 rfl rfl ?_
    refine v_iload_n F dX11_takeContest_30 rfl rfl ?_
    refine v_iadd F dX11_takeContest_31 ?_
    refine v_iconst F dX11_takeContest_32 ⟨by decide, by decide⟩ ?_
    obtain ⟨x64, ex64, h⟩ := lv_some h
    refine v_n2 ex64 ?_
    obtain ⟨hi65, h⟩ := ck_some h
    obtain ⟨d66, ed66, h⟩ := sd_some h
    refine v_iast F dX11_takeContest_33 (ar_X11_44 hX hp) hi65 ?_
    refine v_nD ed66 ?_
    obtain ⟨x67, ex67, h⟩ := lv_some h
    refine v_iincN F dX11_takeContest_34 (Nat.le_of_ble_eq_true rfl) rfl ex67 (L' := [mA 1545, mU, mI v2, mI x67, mU]) rfl ?_
    refine v_goto F dX11_takeContest_37 rfl ?_
    cases h
    exact K
theorem fX11_takeContest_19_ok {w : Wd} {l : Launch} {G : Cx} {d m dd : Dt} {v2 v3 : Int} {d' : Dt} {r : Int} {x : (Dt × Int)} (F : Fx w G cX11_takeContest RX11 5 (some .boolean) { frames := 7, cells := 0, slots := 0, locals := 153 }) (hX : WF dd m) (hp : PB m 1545 11) (h : fX11_takeContest_19 d v2 v3 = some x) (K : (fun q => q = (d', r)) x) : V w l WF G (QM w G WF (some (mI r)) d' m 0 0) d m 0 0 19 [mA 1545, mU, mI v2, mI v3, mU] [] := by
  unfold fX11_takeContest_19 at h
  exact loop_ok (P := fX11_takeContest_19P w l G (QM w G WF (some (mI r)) d' m 0 0) m v2) (fun s x hx h1 h2 => fX11_takeContest_19f_ok F hX hp hx (by
    cases x with
    | inl s' => exact h1 s' rfl
    | inr z => cases h2 z rfl; exact K)) h
theorem vm_X11_takeContest {w : Wd} {l : Launch} {d m : Dt} {d' : Dt} {r : Int} (hp : PB m 1545 11) (h : fX11_takeContest d = some (d', r)) : VM w l WF yX11_takeContest cX11_takeContest 5 (some .boolean) 7 153 0 0 d m [mA 1545] (some (mI r)) d' m := by
  obtain ⟨x, h, K⟩ : ∃ x, fX11_takeContest d = some x ∧ x = (d', r) := ⟨_, h, rfl⟩
  refine VM.of (L := [mA 1545, mU, mU, mU, mU]) (by decide +kernel) rfl (Nat.le_of_ble_eq_true rfl) fun G F _ => v_fact fun _ hX _ _ => ?_
  unfold fX11_takeContest at h
  refine v_aload_n F dX11_takeContest_0 rfl rfl ?_
  refine gf_X11_281 F dX11_takeContest_1 hp (v := 1576) rfl ?_
  refine v_bipush F dX11_takeContest_4 rfl ⟨by decide, by decide⟩ ?_
  refine v_iald F dX11_takeContest_6 (ar_X11_43 hX hp) ⟨by decide, by decide⟩ ?_
  refine v_iconst F dX11_takeContest_7 ⟨by decide, by decide⟩ ?_
  refine v_callSv F dX11_takeContest_8 cs_X11_179 rfl (vm_J9_min) rfl (rOk.of rfl) ?_
  obtain ⟨x1, ex1, h⟩ := lv_some h
  refine v_nI ex1 ?_
  refine v_istore_n F dX11_takeContest_11 rfl (Nat.le_of_ble_eq_true rfl) (L' := [mA 1545, mI x1, mU, mU, mU]) rfl ?_
  refine v_bipush F dX11_takeContest_12 rfl ⟨by decide, by decide⟩ ?_
  refine v_iload_n F dX11_takeContest_14 rfl rfl ?_
  refine v_imul F dX11_takeContest_15 ?_
  obtain ⟨x2, ex2, h⟩ := lv_some h
  refine v_nI ex2 ?_
  refine v_istore_n F dX11_takeContest_16 rfl (Nat.le_of_ble_eq_true rfl) (L' := [mA 1545, mI x1, mI x2, mU, mU]) rfl ?_
  refine v_iconst F dX11_takeContest_17 ⟨by decide, by decide⟩ ?_
  refine v_istore_n F dX11_takeContest_18 rfl (Nat.le_of_ble_eq_true rfl) (L' := [mA 1545, mI x1, mI x2, mI 0, mU]) rfl ?_
  refine v_fgt (L' := [mA 1545, mU, mI x2, mI 0, mU]) ⟨Or.inl rfl, Or.inr rfl, Or.inl rfl, Or.inl rfl, Or.inl rfl, trivial⟩ ?_
  exact fX11_takeContest_19_ok F hX hp h K
def fX11_takeClause_14P (w : Wd) (l : Launch) (G : Cx) (Q : State → Prop) (m : Dt) (v1 : Int) (s : Dt × Int × Int) : Prop := V w l WF G Q s.1 m 0 0 14 [mA 1545, mI v1, mI (s.2.1), mI (s.2.2)] []
theorem fX11_takeClause_97_ok {w : Wd} {l : Launch} {G : Cx} {d m dd : Dt} {v2 : Int} {d' : Dt} {r : Int} {x : (Dt × Int)} (F : Fx w G cX11_takeClause RX11 4 (some .boolean) { frames := 11, cells := 0, slots := 0, locals := 247 }) (hX : WF dd m) (hp : PB m 1545 11) (h : fX11_takeClause_97 d v2 = some x) (K : (fun q => q = (d', r)) x) : V w l WF G (QM w G WF (some (mI r)) d' m 0 0) d m 0 0 97 [mA 1545, mU, mI v2, mU] [] := by
  unfold fX11_takeClause_97 at h
  refine v_aload_n F dX11_takeClause_97 rfl rfl ?_
  refine v_dup_A F dX11_takeClause_98 ?_
  refine gf_X11_432 F dX11_takeClause_99 hp ?_
  refine v_iconst F dX11_takeClause_102 ⟨by decide, by decide⟩ ?_
  refine v_iload_n F dX11_takeClause_103 rfl rfl ?_
  refine v_ishl F dX11_takeClause_104 ?_
  refine v_ior F dX11_takeClause_105 ?_
  obtain ⟨d8, ed8, h⟩ := sd_some h
  refine pf_X11_432 F dX11_takeClause_106 hp ?_
  refine v_nD ed8 ?_
  refine v_iload_n F dX11_takeClause_109 rfl rfl ?_
  by_cases hq9 : v2 = 0
  · rw [if_pos hq9] at h
    refine v_tableIn F dX11_takeClause_110 hq9 (by decide) (by decide) rfl rfl ?_
    refine v_aload_n F dX11_takeClause_152 rfl rfl ?_
    obtain ⟨d10, x12, hc11, h⟩ := b2_some h
    refine v_callVv (c := 11) F dX11_takeClause_153 cv_X11_435 rfl (PB.ob hp hX (Nat.le_of_ble_eq_true rfl)) (Nat.le_of_ble_eq_true rfl) rfl (vm_X11_takeDays hp hc11) rfl (rOk.of rfl) ?_
    obtain ⟨hb, h⟩ := ck_some h
    cases h
    cases (show _ = (d', r) from K)
    exact v_zret F hb dX11_takeClause_156
  · rw [if_neg hq9] at h
    by_cases hq13 : v2 = 1
    · rw [if_pos hq13] at h
      refine v_tableIn F dX11_takeClause_110 hq13 (by decide) (by decide) rfl rfl ?_
      refine v_aload_n F dX11_takeClause_157 rfl rfl ?_
      refine gf_X11_281 F dX11_takeClause_158 hp (v := 1576) rfl ?_
      refine v_iconst F dX11_takeClause_161 ⟨by decide, by decide⟩ ?_
      refine v_iconst F dX11_takeClause_162 ⟨by decide, by decide⟩ ?_
      obtain ⟨d14, ed14, h⟩ := sd_some h
      refine v_iast F dX11_takeClause_163 (ar_X11_43 hX hp) ⟨by decide, by decide⟩ ?_
      refine v_nD ed14 ?_
      refine v_iconst F dX11_takeClause_164 ⟨by decide, by decide⟩ ?_
      cases h
      cases (show _ = (d', r) from K)
      exact v_zret F (Or.inr rfl) dX11_takeClause_165
    · rw [if_neg hq13] at h
      by_cases hq15 : v2 = 2
      · rw [if_pos hq15] at h
        refine v_tableIn F dX11_takeClause_110 hq15 (by decide) (by decide) rfl rfl ?_
        refine v_aload_n F dX11_takeClause_166 rfl rfl ?_
        refine v_iconst F dX11_takeClause_167 ⟨by decide, by decide⟩ ?_
        obtain ⟨d16, x18, hc17, h⟩ := b2_some h
        refine v_callVv (c := 11) F dX11_takeClause_168 cv_X11_438 rfl (PB.ob hp hX (Nat.le_of_ble_eq_true rfl)) (Nat.le_of_ble_eq_true rfl) rfl (vm_X11_takeCondition hp hc17) rfl (rOk.of rfl) ?_
        obtain ⟨hb, h⟩ := ck_some h
        cases h
        cases (show _ = (d', r) from K)
        exact v_zret F hb dX11_takeClause_171
      · rw [if_neg hq15] at h
        by_cases hq19 : v2 = 3
        · rw [if_pos hq19] at h
          refine v_tableIn F dX11_takeClause_110 hq19 (by decide) (by decide) rfl rfl ?_
          refine v_aload_n F dX11_takeClause_172 rfl rfl ?_
          refine v_iconst F dX11_takeClause_173 ⟨by decide, by decide⟩ ?_
          obtain ⟨d20, x22, hc21, h⟩ := b2_some h
          refine v_callVv (c := 11) F dX11_takeClause_174 cv_X11_438 rfl (PB.ob hp hX (Nat.le_of_ble_eq_true rfl)) (Nat.le_of_ble_eq_true rfl) rfl (vm_X11_takeCondition hp hc21) rfl (rOk.of rfl) ?_
          obtain ⟨hb, h⟩ := ck_some h
          cases h
          cases (show _ = (d', r) from K)
          exact v_zret F hb dX11_takeClause_177
        · rw [if_neg hq19] at h
          by_cases hq23 : v2 = 4
          · rw [if_pos hq23] at h
            refine v_tableIn F dX11_takeClause_110 hq23 (by decide) (by decide) rfl rfl ?_
            refine v_aload_n F dX11_takeClause_178 rfl rfl ?_
            obtain ⟨d24, x26, hc25, h⟩ := b2_some h
            refine v_callVv (c := 11) F dX11_takeClause_179 cv_X11_441 rfl (PB.ob hp hX (Nat.le_of_ble_eq_true rfl)) (Nat.le_of_ble_eq_true rfl) rfl (vm_X11_takeSignatures hp hc25) rfl (rOk.of rfl) ?_
            obtain ⟨hb, h⟩ := ck_some h
            cases h
            cases (show _ = (d', r) from K)
            exact v_zret F hb dX11_takeClause_182
          · rw [if_neg hq23] at h
            by_cases hq27 : v2 = 5
            · rw [if_pos hq27] at h
              refine v_tableIn F dX11_takeClause_110 hq27 (by decide) (by decide) rfl rfl ?_
              refine v_aload_n F dX11_takeClause_183 rfl rfl ?_
              refine v_iconst F dX11_takeClause_184 ⟨by decide, by decide⟩ ?_
              refine v_iconst F dX11_takeClause_185 ⟨by decide, by decide⟩ ?_
              obtain ⟨d28, x30, hc29, h⟩ := b2_some h
              refine v_callVv (c := 11) F dX11_takeClause_186 cv_X11_301 rfl (PB.ob hp hX (Nat.le_of_ble_eq_true rfl)) (Nat.le_of_ble_eq_true rfl) rfl (vm_X11_takeWithin hp hc29) rfl (rOk.of rfl) ?_
              refine v_if_ne F dX11_takeClause_189 rfl (fun hq31 => ?_) (fun hq31 => ?_)
              · rw [if_neg hq31] at h
                refine v_aload_n F dX11_takeClause_194 rfl rfl ?_
                refine gf_X11_281 F dX11_takeClause_195 hp (v := 1576) rfl ?_
                refine v_bipush F dX11_takeClause_198 rfl ⟨by decide, by decide⟩ ?_
                refine v_aload_n F dX11_takeClause_200 rfl rfl ?_
                refine gf_X11_218 F dX11_takeClause_201 hp ?_
                obtain ⟨d32, ed32, h⟩ := sd_some h
                refine v_iast F dX11_takeClause_204 (ar_X11_43 hX hp) ⟨by decide, by decide⟩ ?_
                refine v_nD ed32 ?_
                refine v_iconst F dX11_takeClause_205 ⟨by decide, by decide⟩ ?_
                cases h
                cases (show _ = (d', r) from K)
                exact v_zret F (Or.inr rfl) dX11_takeClause_206
              · rw [if_pos hq31] at h
                refine v_iconst F dX11_takeClause_192 ⟨by decide, by decide⟩ ?_
                cases h
                cases (show _ = (d', r) from K)
                exact v_zret F (Or.inl rfl) dX11_takeClause_193
            · rw [if_neg hq27] at h
              by_cases hq33 : v2 = 6
              · rw [if_pos hq33] at h
                refine v_tableIn F dX11_takeClause_110 hq33 (by decide) (by decide) rfl rfl ?_
                refine v_aload_n F dX11_takeClause_207 rfl rfl ?_
                refine gf_X11_281 F dX11_takeClause_208 hp (v := 1576) rfl ?_
                refine v_bipush F dX11_takeClause_211 rfl ⟨by decide, by decide⟩ ?_
                refine v_iconst F dX11_takeClause_213 ⟨by decide, by decide⟩ ?_
                obtain ⟨d34, ed34, h⟩ := sd_some h
                refine v_iast F dX11_takeClause_214 (ar_X11_43 hX hp) ⟨by decide, by decide⟩ ?_
                refine v_nD ed34 ?_
                refine v_iconst F dX11_takeClause_215 ⟨by decide, by decide⟩ ?_
                cases h
                cases (show _ = (d', r) from K)
                exact v_zret F (Or.inr rfl) dX11_takeClause_216
              · rw [if_neg hq33] at h
                refine v_tableOut F dX11_takeClause_110 (by omega) rfl ?_
                refine v_aload_n F dX11_takeClause_217 rfl rfl ?_
                obtain ⟨d35, x37, hc36, h⟩ := b2_some h
                refine v_callVv (c := 11) F dX11_takeClause_218 cv_X11_444 rfl (PB.ob hp hX (Nat.le_of_ble_eq_true rfl)) (Nat.le_of_ble_eq_true rfl) rfl (vm_X11_takeContest hp hc36) rfl (rOk.of rfl) ?_
                obtain ⟨hb, h⟩ := ck_some h
                cases h
                cases (show _ = (d', r) from K)
                exact v_zret F hb dX11_takeClause_221
theorem fX11_takeClause_92_ok {w : Wd} {l : Launch} {G : Cx} {d m dd : Dt} {v1 v2 : Int} {d' : Dt} {r : Int} {x : (Dt × Int)} (F : Fx w G cX11_takeClause RX11 4 (some .boolean) { frames := 11, cells := 0, slots := 0, locals := 247 }) (hX : WF dd m) (hp : PB m 1545 11) (h : fX11_takeClause_92 d v1 v2 = some x) (K : (fun q => q = (d', r)) x) : V w l WF G (QM w G WF (some (mI r)) d' m 0 0) d m 0 0 92 [mA 1545, mI v1, mI v2, mU] [] := by
  unfold fX11_takeClause_92 at h
  refine v_aload_n F dX11_takeClause_92 rfl rfl ?_
  refine v_iload_n F dX11_takeClause_93 rfl rfl ?_
  obtain ⟨d39, hc40, h⟩ := bd_some h
  refine v_callV0 (c := 11) F dX11_takeClause_94 cv_X11_224 rfl (PB.ob hp hX (Nat.le_of_ble_eq_true rfl)) (Nat.le_of_ble_eq_true rfl) rfl (vm_X11_blame hp hc40) rfl (rOk.of rfl) ?_
  refine v_fgt (L' := [mA 1545, mU, mI v2, mU]) ⟨Or.inl rfl, Or.inr rfl, Or.inl rfl, Or.inl rfl, trivial⟩ ?_
  exact fX11_takeClause_97_ok F hX hp h K
theorem fX11_takeClause_74_ok {w : Wd} {l : Launch} {G : Cx} {d m dd : Dt} {v1 v2 : Int} {d' : Dt} {r : Int} {x : (Dt × Int)} (F : Fx w G cX11_takeClause RX11 4 (some .boolean) { frames := 11, cells := 0, slots := 0, locals := 247 }) (hX : WF dd m) (hp : PB m 1545 11) (h : fX11_takeClause_74 d v1 v2 = some x) (K : (fun q => q = (d', r)) x) : V w l WF G (QM w G WF (some (mI r)) d' m 0 0) d m 0 0 74 [mA 1545, mI v1, mI v2, mU] [] := by
  unfold fX11_takeClause_74 at h
  refine v_iload_n F dX11_takeClause_74 rfl rfl ?_
  refine v_bipush F dX11_takeClause_75 rfl ⟨by decide, by decide⟩ ?_
  refine v_icmp_ne F dX11_takeClause_77 rfl (fun hq7 => ?_) (fun hq7 => ?_)
  · rw [if_neg hq7] at h
    refine v_fgt (L' := [mA 1545, mU, mI v2, mU]) ⟨Or.inl rfl, Or.inr rfl, Or.inl rfl, Or.inl rfl, trivial⟩ ?_
    exact fX11_takeClause_97_ok F hX hp h K
  · rw [if_pos hq7] at h
    refine v_aload_n F dX11_takeClause_80 rfl rfl ?_
    refine gf_X11_281 F dX11_takeClause_81 hp (v := 1576) rfl ?_
    refine v_bipush F dX11_takeClause_84 rfl ⟨by decide, by decide⟩ ?_
    refine v_iald F dX11_takeClause_86 (ar_X11_43 hX hp) ⟨by decide, by decide⟩ ?_
    refine v_bipush F dX11_takeClause_87 rfl ⟨by decide, by decide⟩ ?_
    refine v_icmp_lt F dX11_takeClause_89 rfl (fun hq38 => ?_) (fun hq38 => ?_)
    · rw [if_pos hq38] at h
      refine v_fgt (L' := [mA 1545, mU, mI v2, mU]) ⟨Or.inl rfl, Or.inr rfl, Or.inl rfl, Or.inl rfl, trivial⟩ ?_
      exact fX11_takeClause_97_ok F hX hp h K
    · rw [if_neg hq38] at h
      exact fX11_takeClause_92_ok F hX hp h K
theorem fX11_takeClause_47_ok {w : Wd} {l : Launch} {G : Cx} {d m dd : Dt} {v1 v2 : Int} {d' : Dt} {r : Int} {x : (Dt × Int)} (F : Fx w G cX11_takeClause RX11 4 (some .boolean) { frames := 11, cells := 0, slots := 0, locals := 247 }) (hX : WF dd m) (hp : PB m 1545 11) (h : fX11_takeClause_47 d v1 v2 = some x) (K : (fun q => q = (d', r)) x) : V w l WF G (QM w G WF (some (mI r)) d' m 0 0) d m 0 0 47 [mA 1545, mI v1, mI v2, mU] [] := by
  unfold fX11_takeClause_47 at h
  refine v_iload_n F dX11_takeClause_47 rfl rfl ?_
  refine v_if_ge F dX11_takeClause_48 rfl (fun hq5 => ?_) (fun hq5 => ?_)
  · rw [if_pos hq5] at h
    refine v_iload_n F dX11_takeClause_56 rfl rfl ?_
    refine v_bipush F dX11_takeClause_57 rfl ⟨by decide, by decide⟩ ?_
    refine v_icmp_ge F dX11_takeClause_59 rfl (fun hq6 => ?_) (fun hq6 => ?_)
    · rw [if_pos hq6] at h
      exact fX11_takeClause_74_ok F hX hp h K
    · rw [if_neg hq6] at h
      refine v_aload_n F dX11_takeClause_62 rfl rfl ?_
      refine gf_X11_432 F dX11_takeClause_63 hp ?_
      refine v_iload_n F dX11_takeClause_66 rfl rfl ?_
      refine v_ishr F dX11_takeClause_67 ?_
      refine v_iconst F dX11_takeClause_68 ⟨by decide, by decide⟩ ?_
      refine v_iand F dX11_takeClause_69 ?_
      refine v_iconst F dX11_takeClause_70 ⟨by decide, by decide⟩ ?_
      refine v_icmp_eq F dX11_takeClause_71 rfl (fun hq41 => ?_) (fun hq41 => ?_)
      · rw [if_pos hq41] at h
        exact fX11_takeClause_92_ok F hX hp h K
      · rw [if_neg hq41] at h
        exact fX11_takeClause_74_ok F hX hp h K
  · rw [if_neg hq5] at h
    refine v_aload_n F dX11_takeClause_51 rfl rfl ?_
    obtain ⟨d42, x44, hc43, h⟩ := b2_some h
    refine v_callVv (c := 11) F dX11_takeClause_52 cv_X11_210 rfl (PB.ob hp hX (Nat.le_of_ble_eq_true rfl)) (Nat.le_of_ble_eq_true rfl) rfl (vm_X11_miss hp hc43) rfl (rOk.of rfl) ?_
    obtain ⟨hb, h⟩ := ck_some h
    cases h
    cases (show _ = (d', r) from K)
    exact v_zret F hb dX11_takeClause_55
theorem fX11_takeClause_14f_ok {w : Wd} {l : Launch} {G : Cx} {m dd : Dt} {v1 : Int} {d' : Dt} {r : Int} {s : Dt × Int × Int} {x : ((Dt × Int × Int) ⊕ (Dt × Int))} (F : Fx w G cX11_takeClause RX11 4 (some .boolean) { frames := 11, cells := 0, slots := 0, locals := 247 }) (hX : WF dd m) (hp : PB m 1545 11) (h : fX11_takeClause_14f v1 s = some x) (K : (Sum.elim (fX11_takeClause_14P w l G (QM w G WF (some (mI r)) d' m 0 0) m v1) (fun q => q = (d', r))) x) : V w l WF G (QM w G WF (some (mI r)) d' m 0 0) s.1 m 0 0 14 [mA 1545, mI v1, mI (s.2.1), mI (s.2.2)] [] := by
  obtain ⟨d, v2, v3⟩ := s
  unfold fX11_takeClause_14f at h
  dsimp only at h
  refine v_iload_n F dX11_takeClause_14 rfl rfl ?_
  refine v_bipush F dX11_takeClause_15 rfl ⟨by decide, by decide⟩ ?_
  refine v_icmp_ge F dX11_takeClause_17 rfl (fun hq4 => ?_) (fun hq4 => ?_)
  · rw [if_pos hq4] at h
    obtain ⟨z, hu, ez⟩ := up_some h
    clear h
    subst ez
    have h := hu
    clear hu
    refine v_fgt (L' := [mA 1545, mI v1, mI v2, mU]) ⟨Or.inl rfl, Or.inl rfl, Or.inl rfl, Or.inr rfl, trivial⟩ ?_
    exact fX11_takeClause_47_ok F hX hp h K
  · rw [if_neg hq4] at h
    refine v_iload_n F dX11_takeClause_20 rfl rfl ?_
    refine v_if_ge F dX11_takeClause_21 rfl (fun hq45 => ?_) (fun hq45 => ?_)
    · rw [if_pos hq45] at h
      obtain ⟨z, hu, ez⟩ := up_some h
      clear h
      subst ez
      have h := hu
      clear hu
      refine v_fgt (L' := [mA 1545, mI v1, mI v2, mU]) ⟨Or.inl rfl, Or.inl rfl, Or.inl rfl, Or.inr rfl, trivial⟩ ?_
      exact fX11_takeClause_47_ok F hX hp h K
    · rw [if_neg hq45] at h
      refine v_aload_n F dX11_takeClause_24 rfl rfl ?_
      refine v_iload_n F dX11_takeClause_25 rfl rfl ?_
      refine v_callSv F dX11_takeClause_26 cs_X11_429 rfl (vm_X11_clauseName) rfl (rOk.of rfl) ?_
      obtain ⟨d46, x48, hc47, h⟩ := b2_some h
      refine v_callVv (c := 11) F dX11_takeClause_29 cv_X11_249 rfl (PB.ob hp hX (Nat.le_of_ble_eq_true rfl)) (Nat.le_of_ble_eq_true rfl) rfl (vm_X11_mayWord hp (ps_X11_clauseName) hc47) rfl (rOk.of rfl) ?_
      refine v_if_eq F dX11_takeClause_32 rfl (fun hq49 => ?_) (fun hq49 => ?_)
      · rw [if_pos hq49] at h
        refine v_iconst F dX11_takeClause_39 ⟨by decide, by decide⟩ ?_
        refine v_istore_n F dX11_takeClause_40 rfl (Nat.le_of_ble_eq_true rfl) (L' := [mA 1545, mI v1, mI (-1), mI v3]) rfl ?_
        obtain ⟨x50, ex50, h⟩ := lv_some h
        refine v_iincN F dX11_takeClause_41 (Nat.le_of_ble_eq_true rfl) rfl ex50 (L' := [mA 1545, mI v1, mI (-1), mI x50]) rfl ?_
        refine v_goto F dX11_takeClause_44 rfl ?_
        cases h
        exact K
      · rw [if_neg hq49] at h
        refine v_iload_n F dX11_takeClause_35 rfl rfl ?_
        refine v_goto F dX11_takeClause_36 rfl ?_
        refine v_istore_n F dX11_takeClause_40 rfl (Nat.le_of_ble_eq_true rfl) (L' := [mA 1545, mI v1, mI v3, mI v3]) rfl ?_
        obtain ⟨x51, ex51, h⟩ := lv_some h
        refine v_iincN F dX11_takeClause_41 (Nat.le_of_ble_eq_true rfl) rfl ex51 (L' := [mA 1545, mI v1, mI v3, mI x51]) rfl ?_
        refine v_goto F dX11_takeClause_44 rfl ?_
        cases h
        exact K
theorem fX11_takeClause_14_ok {w : Wd} {l : Launch} {G : Cx} {d m dd : Dt} {v1 v2 v3 : Int} {d' : Dt} {r : Int} {x : (Dt × Int)} (F : Fx w G cX11_takeClause RX11 4 (some .boolean) { frames := 11, cells := 0, slots := 0, locals := 247 }) (hX : WF dd m) (hp : PB m 1545 11) (h : fX11_takeClause_14 d v1 v2 v3 = some x) (K : (fun q => q = (d', r)) x) : V w l WF G (QM w G WF (some (mI r)) d' m 0 0) d m 0 0 14 [mA 1545, mI v1, mI v2, mI v3] [] := by
  unfold fX11_takeClause_14 at h
  exact loop_ok (P := fX11_takeClause_14P w l G (QM w G WF (some (mI r)) d' m 0 0) m v1) (fun s x hx h1 h2 => fX11_takeClause_14f_ok F hX hp hx (by
    cases x with
    | inl s' => exact h1 s' rfl
    | inr z => cases h2 z rfl; exact K)) h
theorem vm_X11_takeClause {w : Wd} {l : Launch} {d m : Dt} {d' : Dt} {r : Int} (hp : PB m 1545 11) (h : fX11_takeClause d = some (d', r)) : VM w l WF yX11_takeClause cX11_takeClause 4 (some .boolean) 11 247 0 0 d m [mA 1545] (some (mI r)) d' m := by
  obtain ⟨x, h, K⟩ : ∃ x, fX11_takeClause d = some x ∧ x = (d', r) := ⟨_, h, rfl⟩
  refine VM.of (L := [mA 1545, mU, mU, mU]) (by decide +kernel) rfl (Nat.le_of_ble_eq_true rfl) fun G F _ => v_fact fun _ hX _ _ => ?_
  unfold fX11_takeClause at h
  refine v_aload_n F dX11_takeClause_0 rfl rfl ?_
  refine gf_X11_161 F dX11_takeClause_1 hp (v := 1566) rfl ?_
  refine v_aload_n F dX11_takeClause_4 rfl rfl ?_
  refine gf_X11_188 F dX11_takeClause_5 hp ?_
  obtain ⟨x1, ex1, h⟩ := lv_some h
  refine v_nI ex1 ?_
  obtain ⟨hi2, h⟩ := ck_some h
  refine v_iald F dX11_takeClause_8 (ar_X11_25 hX hp) hi2 ?_
  obtain ⟨x3, ex3, h⟩ := lv_some h
  refine v_nI ex3 ?_
  refine v_istore_n F dX11_takeClause_9 rfl (Nat.le_of_ble_eq_true rfl) (L' := [mA 1545, mI x3, mU, mU]) rfl ?_
  refine v_iconst F dX11_takeClause_10 ⟨by decide, by decide⟩ ?_
  refine v_istore_n F dX11_takeClause_11 rfl (Nat.le_of_ble_eq_true rfl) (L' := [mA 1545, mI x3, mI (-1), mU]) rfl ?_
  refine v_iconst F dX11_takeClause_12 ⟨by decide, by decide⟩ ?_
  refine v_istore_n F dX11_takeClause_13 rfl (Nat.le_of_ble_eq_true rfl) (L' := [mA 1545, mI x3, mI (-1), mI 0]) rfl ?_
  exact fX11_takeClause_14_ok F hX hp h K
def fX11_readLaw_2P (w : Wd) (l : Launch) (G : Cx) (Q : State → Prop) (m : Dt) (s : Dt × Int) : Prop := V w l WF G Q s.1 m 0 0 2 [mA 1545, mI (s.2)] []
def fX11_readLaw_76P (w : Wd) (l : Launch) (G : Cx) (Q : State → Prop) (m : Dt) (s : Dt) : Prop := V w l WF G Q s m 0 0 76 [mA 1545, mU] []
theorem fX11_readLaw_134_ok {w : Wd} {l : Launch} {G : Cx} {d m dd : Dt} {d' : Dt} {r : Int} {x : (Dt × Int)} (F : Fx w G cX11_readLaw RX11 2 (some .int) { frames := 12, cells := 0, slots := 0, locals := 270 }) (hX : WF dd m) (hp : PB m 1545 11) (h : fX11_readLaw_134 d = some x) (K : (fun q => q = (d', r)) x) : V w l WF G (QM w G WF (some (mI r)) d' m 0 0) d m 0 0 134 [mA 1545, mU] [] := by
  unfold fX11_readLaw_134 at h
  refine v_aload_n F dX11_readLaw_134 rfl rfl ?_
  refine gf_X11_204 F dX11_readLaw_135 hp ?_
  refine v_ldcw (n := 2147483647) F dX11_readLaw_138 q2534 rfl ⟨by decide, by decide⟩ ?_
  refine v_icmp_ne F dX11_readLaw_141 rfl (fun hq18 => ?_) (fun hq18 => ?_)
  · rw [if_neg hq18] at h
    refine v_aload_n F dX11_readLaw_148 rfl rfl ?_
    refine gf_X11_204 F dX11_readLaw_149 hp ?_
    cases h
    cases (show _ = (d', r) from K)
    exact v_iret F dX11_readLaw_152
  · rw [if_pos hq18] at h
    refine v_iconst F dX11_readLaw_144 ⟨by decide, by decide⟩ ?_
    refine v_goto F dX11_readLaw_145 rfl ?_
    cases h
    cases (show _ = (d', r) from K)
    exact v_iret F dX11_readLaw_152
theorem fX11_readLaw_126_ok {w : Wd} {l : Launch} {G : Cx} {d m dd : Dt} {d' : Dt} {r : Int} {x : (Dt × Int)} (F : Fx w G cX11_readLaw RX11 2 (some .int) { frames := 12, cells := 0, slots := 0, locals := 270 }) (hX : WF dd m) (hp : PB m 1545 11) (h : fX11_readLaw_126 d = some x) (K : (fun q => q = (d', r)) x) : V w l WF G (QM w G WF (some (mI r)) d' m 0 0) d m 0 0 126 [mA 1545, mU] [] := by
  unfold fX11_readLaw_126 at h
  refine v_aload_n F dX11_readLaw_126 rfl rfl ?_
  refine v_aload_n F dX11_readLaw_127 rfl rfl ?_
  refine gf_X11_158 F dX11_readLaw_128 hp ?_
  obtain ⟨d16, hc17, h⟩ := bd_some h
  refine v_callV0 (c := 11) F dX11_readLaw_131 cv_X11_224 rfl (PB.ob hp hX (Nat.le_of_ble_eq_true rfl)) (Nat.le_of_ble_eq_true rfl) rfl (vm_X11_blame hp hc17) rfl (rOk.of rfl) ?_
  exact fX11_readLaw_134_ok F hX hp h K
theorem fX11_readLaw_100_ok {w : Wd} {l : Launch} {G : Cx} {d m dd : Dt} {d' : Dt} {r : Int} {x : (Dt × Int)} (F : Fx w G cX11_readLaw RX11 2 (some .int) { frames := 12, cells := 0, slots := 0, locals := 270 }) (hX : WF dd m) (hp : PB m 1545 11) (h : fX11_readLaw_100 d = some x) (K : (fun q => q = (d', r)) x) : V w l WF G (QM w G WF (some (mI r)) d' m 0 0) d m 0 0 100 [mA 1545, mU] [] := by
  unfold fX11_readLaw_100 at h
  refine v_aload_n F dX11_readLaw_100 rfl rfl ?_
  refine gf_X11_201 F dX11_readLaw_101 hp ?_
  cases h
  cases (show _ = (d', r) from K)
  exact v_iret F dX11_readLaw_104
theorem fX11_readLaw_76f_ok {w : Wd} {l : Launch} {G : Cx} {m dd : Dt} {d' : Dt} {r : Int} {s : Dt} {x : ((Dt) ⊕ (Dt × Int))} (F : Fx w G cX11_readLaw RX11 2 (some .int) { frames := 12, cells := 0, slots := 0, locals := 270 }) (hX : WF dd m) (hp : PB m 1545 11) (h : fX11_readLaw_76f s = some x) (K : (Sum.elim (fX11_readLaw_76P w l G (QM w G WF (some (mI r)) d' m 0 0) m) (fun q => q = (d', r))) x) : V w l WF G (QM w G WF (some (mI r)) d' m 0 0) s m 0 0 76 [mA 1545, mU] [] := by
  obtain ⟨d, rfl⟩ : ∃ z, z = s := ⟨s, rfl⟩
  unfold fX11_readLaw_76f at h
  dsimp only at h
  refine v_aload_n F dX11_readLaw_76 rfl rfl ?_
  refine v_iconst F dX11_readLaw_77 ⟨by decide, by decide⟩ ?_
  obtain ⟨x12, hc13, h⟩ := b1_some h
  refine v_callVv (c := 11) F dX11_readLaw_78 cv_X11_207 rfl (PB.ob hp hX (Nat.le_of_ble_eq_true rfl)) (Nat.le_of_ble_eq_true rfl) rfl (vm_X11_isSign hp hc13) rfl (rOk.of rfl) ?_
  refine v_if_ne F dX11_readLaw_81 rfl (fun hq14 => ?_) (fun hq14 => ?_)
  · rw [if_neg hq14] at h
    obtain ⟨z, hu, ez⟩ := up_some h
    clear h
    subst ez
    have h := hu
    clear hu
    refine v_aload_n F dX11_readLaw_105 rfl rfl ?_
    refine gf_X11_432 F dX11_readLaw_106 hp ?_
    refine v_iconst F dX11_readLaw_109 ⟨by decide, by decide⟩ ?_
    refine v_iand F dX11_readLaw_110 ?_
    refine v_if_eq F dX11_readLaw_111 rfl (fun hq15 => ?_) (fun hq15 => ?_)
    · rw [if_pos hq15] at h
      exact fX11_readLaw_126_ok F hX hp h K
    · rw [if_neg hq15] at h
      refine v_aload_n F dX11_readLaw_114 rfl rfl ?_
      refine gf_X11_432 F dX11_readLaw_115 hp ?_
      refine v_bipush F dX11_readLaw_118 rfl ⟨by decide, by decide⟩ ?_
      refine v_ishr F dX11_readLaw_120 ?_
      refine v_iconst F dX11_readLaw_121 ⟨by decide, by decide⟩ ?_
      refine v_iand F dX11_readLaw_122 ?_
      refine v_if_ne F dX11_readLaw_123 rfl (fun hq19 => ?_) (fun hq19 => ?_)
      · rw [if_neg hq19] at h
        exact fX11_readLaw_134_ok F hX hp h K
      · rw [if_pos hq19] at h
        exact fX11_readLaw_126_ok F hX hp h K
  · rw [if_pos hq14] at h
    refine v_aload_n F dX11_readLaw_84 rfl rfl ?_
    obtain ⟨d20, x22, hc21, h⟩ := b2_some h
    refine v_callVv (c := 11) F dX11_readLaw_85 cv_X11_454 rfl (PB.ob hp hX (Nat.le_of_ble_eq_true rfl)) (Nat.le_of_ble_eq_true rfl) rfl (vm_X11_takeClause hp hc21) rfl (rOk.of rfl) ?_
    refine v_if_eq F dX11_readLaw_88 rfl (fun hq23 => ?_) (fun hq23 => ?_)
    · rw [if_pos hq23] at h
      obtain ⟨z, hu, ez⟩ := up_some h
      clear h
      subst ez
      have h := hu
      clear hu
      exact fX11_readLaw_100_ok F hX hp h K
    · rw [if_neg hq23] at h
      refine v_aload_n F dX11_readLaw_91 rfl rfl ?_
      refine v_bipush F dX11_readLaw_92 rfl ⟨by decide, by decide⟩ ?_
      obtain ⟨d24, x26, hc25, h⟩ := b2_some h
      refine v_callVv (c := 11) F dX11_readLaw_94 cv_X11_275 rfl (PB.ob hp hX (Nat.le_of_ble_eq_true rfl)) (Nat.le_of_ble_eq_true rfl) rfl (vm_X11_takeSign hp hc25) rfl (rOk.of rfl) ?_
      refine v_if_ne F dX11_readLaw_97 rfl (fun hq27 => ?_) (fun hq27 => ?_)
      · rw [if_neg hq27] at h
        cases h
        exact K
      · rw [if_pos hq27] at h
        obtain ⟨z, hu, ez⟩ := up_some h
        clear h
        subst ez
        have h := hu
        clear hu
        exact fX11_readLaw_100_ok F hX hp h K
theorem fX11_readLaw_76_ok {w : Wd} {l : Launch} {G : Cx} {d m dd : Dt} {d' : Dt} {r : Int} {x : (Dt × Int)} (F : Fx w G cX11_readLaw RX11 2 (some .int) { frames := 12, cells := 0, slots := 0, locals := 270 }) (hX : WF dd m) (hp : PB m 1545 11) (h : fX11_readLaw_76 d = some x) (K : (fun q => q = (d', r)) x) : V w l WF G (QM w G WF (some (mI r)) d' m 0 0) d m 0 0 76 [mA 1545, mU] [] := by
  unfold fX11_readLaw_76 at h
  exact loop_ok (P := fX11_readLaw_76P w l G (QM w G WF (some (mI r)) d' m 0 0) m) (fun s x hx h1 h2 => fX11_readLaw_76f_ok F hX hp hx (by
    cases x with
    | inl s' => exact h1 s' rfl
    | inr z => cases h2 z rfl; exact K)) h
theorem fX11_readLaw_2f_ok {w : Wd} {l : Launch} {G : Cx} {m dd : Dt} {d' : Dt} {r : Int} {s : Dt × Int} {x : ((Dt × Int) ⊕ (Dt × Int))} (F : Fx w G cX11_readLaw RX11 2 (some .int) { frames := 12, cells := 0, slots := 0, locals := 270 }) (hX : WF dd m) (hp : PB m 1545 11) (h : fX11_readLaw_2f s = some x) (K : (Sum.elim (fX11_readLaw_2P w l G (QM w G WF (some (mI r)) d' m 0 0) m) (fun q => q = (d', r))) x) : V w l WF G (QM w G WF (some (mI r)) d' m 0 0) s.1 m 0 0 2 [mA 1545, mI (s.2)] [] := by
  obtain ⟨d, v1⟩ := s
  unfold fX11_readLaw_2f at h
  dsimp only at h
  refine v_iload_n F dX11_readLaw_2 rfl rfl ?_
  refine v_bipush F dX11_readLaw_3 rfl ⟨by decide, by decide⟩ ?_
  refine v_icmp_ge F dX11_readLaw_5 rfl (fun hq1 => ?_) (fun hq1 => ?_)
  · rw [if_pos hq1] at h
    obtain ⟨z, hu, ez⟩ := up_some h
    clear h
    subst ez
    have h := hu
    clear hu
    refine v_aload_n F dX11_readLaw_21 rfl rfl ?_
    refine gf_X11_281 F dX11_readLaw_22 hp (v := 1576) rfl ?_
    refine v_bipush F dX11_readLaw_25 rfl ⟨by decide, by decide⟩ ?_
    refine v_iconst F dX11_readLaw_27 ⟨by decide, by decide⟩ ?_
    obtain ⟨d2, ed2, h⟩ := sd_some h
    refine v_iast F dX11_readLaw_28 (ar_X11_43 hX hp) ⟨by decide, by decide⟩ ?_
    refine v_nD ed2 ?_
    refine v_aload_n F dX11_readLaw_29 rfl rfl ?_
    refine gf_X11_290 F dX11_readLaw_30 hp (v := 1570) rfl ?_
    refine v_iconst F dX11_readLaw_33 ⟨by decide, by decide⟩ ?_
    refine v_iconst F dX11_readLaw_34 ⟨by decide, by decide⟩ ?_
    obtain ⟨d3, ed3, h⟩ := sd_some h
    refine v_iast F dX11_readLaw_35 (ar_X11_37 hX hp) ⟨by decide, by decide⟩ ?_
    refine v_nD ed3 ?_
    refine v_aload_n F dX11_readLaw_36 rfl rfl ?_
    refine gf_X11_290 F dX11_readLaw_37 hp (v := 1570) rfl ?_
    refine v_iconst F dX11_readLaw_40 ⟨by decide, by decide⟩ ?_
    refine v_iconst F dX11_readLaw_41 ⟨by decide, by decide⟩ ?_
    obtain ⟨d4, ed4, h⟩ := sd_some h
    refine v_iast F dX11_readLaw_42 (ar_X11_37 hX hp) ⟨by decide, by decide⟩ ?_
    refine v_nD ed4 ?_
    refine v_aload_n F dX11_readLaw_43 rfl rfl ?_
    refine gf_X11_310 F dX11_readLaw_44 hp (v := 1571) rfl ?_
    refine v_iconst F dX11_readLaw_47 ⟨by decide, by decide⟩ ?_
    refine v_iconst F dX11_readLaw_48 ⟨by decide, by decide⟩ ?_
    obtain ⟨d5, ed5, h⟩ := sd_some h
    refine v_iast F dX11_readLaw_49 (ar_X11_38 hX hp) ⟨by decide, by decide⟩ ?_
    refine v_nD ed5 ?_
    refine v_aload_n F dX11_readLaw_50 rfl rfl ?_
    refine v_iconst F dX11_readLaw_51 ⟨by decide, by decide⟩ ?_
    obtain ⟨d6, ed6, h⟩ := sd_some h
    refine pf_X11_432 F dX11_readLaw_52 hp ?_
    refine v_nD ed6 ?_
    refine v_aload_n F dX11_readLaw_55 rfl rfl ?_
    refine v_iconst F dX11_readLaw_56 ⟨by decide, by decide⟩ ?_
    obtain ⟨d7, ed7, h⟩ := sd_some h
    refine pf_X11_410 F dX11_readLaw_57 hp (Or.inl rfl) ?_
    refine v_nD ed7 ?_
    refine v_aload_n F dX11_readLaw_60 rfl rfl ?_
    refine v_ldcw (n := 2147483647) F dX11_readLaw_61 q2534 rfl ⟨by decide, by decide⟩ ?_
    obtain ⟨d8, ed8, h⟩ := sd_some h
    refine pf_X11_204 F dX11_readLaw_64 hp ?_
    refine v_nD ed8 ?_
    refine v_aload_n F dX11_readLaw_67 rfl rfl ?_
    refine v_iconst F dX11_readLaw_68 ⟨by decide, by decide⟩ ?_
    obtain ⟨d9, ed9, h⟩ := sd_some h
    refine pf_X11_188 F dX11_readLaw_69 hp ?_
    refine v_nD ed9 ?_
    refine v_aload_n F dX11_readLaw_72 rfl rfl ?_
    obtain ⟨d10, hc11, h⟩ := bd_some h
    refine v_callV0 (c := 11) F dX11_readLaw_73 cv_X11_450 rfl (PB.ob hp hX (Nat.le_of_ble_eq_true rfl)) (Nat.le_of_ble_eq_true rfl) rfl (vm_X11_cutSigns hp hc11) rfl (rOk.of rfl) ?_
    refine v_fgt (L' := [mA 1545, mU]) ⟨Or.inl rfl, Or.inr rfl, trivial⟩ ?_
    exact fX11_readLaw_76_ok F hX hp h K
  · rw [if_neg hq1] at h
    refine v_aload_n F dX11_readLaw_8 rfl rfl ?_
    refine gf_X11_281 F dX11_readLaw_9 hp (v := 1576) rfl ?_
    refine v_iload_n F dX11_readLaw_12 rfl rfl ?_
    refine v_iconst F dX11_readLaw_13 ⟨by decide, by decide⟩ ?_
    obtain ⟨hi28, h⟩ := ck_some h
    obtain ⟨d29, ed29, h⟩ := sd_some h
    refine v_iast F dX11_readLaw_14 (ar_X11_43 hX hp) hi28 ?_
    refine v_nD ed29 ?_
    obtain ⟨x30, ex30, h⟩ := lv_some h
    refine v_iincN F dX11_readLaw_15 (Nat.le_of_ble_eq_true rfl) rfl ex30 (L' := [mA 1545, mI x30]) rfl ?_
    refine v_goto F dX11_readLaw_18 rfl ?_
    cases h
    exact K
theorem fX11_readLaw_2_ok {w : Wd} {l : Launch} {G : Cx} {d m dd : Dt} {v1 : Int} {d' : Dt} {r : Int} {x : (Dt × Int)} (F : Fx w G cX11_readLaw RX11 2 (some .int) { frames := 12, cells := 0, slots := 0, locals := 270 }) (hX : WF dd m) (hp : PB m 1545 11) (h : fX11_readLaw_2 d v1 = some x) (K : (fun q => q = (d', r)) x) : V w l WF G (QM w G WF (some (mI r)) d' m 0 0) d m 0 0 2 [mA 1545, mI v1] [] := by
  unfold fX11_readLaw_2 at h
  exact loop_ok (P := fX11_readLaw_2P w l G (QM w G WF (some (mI r)) d' m 0 0) m) (fun s x hx h1 h2 => fX11_readLaw_2f_ok F hX hp hx (by
    cases x with
    | inl s' => exact h1 s' rfl
    | inr z => cases h2 z rfl; exact K)) h
theorem vm_X11_readLaw {w : Wd} {l : Launch} {d m : Dt} {d' : Dt} {r : Int} (hp : PB m 1545 11) (h : fX11_readLaw d = some (d', r)) : VM w l WF yX11_readLaw cX11_readLaw 2 (some .int) 12 270 0 0 d m [mA 1545] (some (mI r)) d' m := by
  obtain ⟨x, h, K⟩ : ∃ x, fX11_readLaw d = some x ∧ x = (d', r) := ⟨_, h, rfl⟩
  refine VM.of (L := [mA 1545, mU]) (by decide +kernel) rfl (Nat.le_of_ble_eq_true rfl) fun G F _ => v_fact fun _ hX _ _ => ?_
  unfold fX11_readLaw at h
  refine v_iconst F dX11_readLaw_0 ⟨by decide, by decide⟩ ?_
  refine v_istore_n F dX11_readLaw_1 rfl (Nat.le_of_ble_eq_true rfl) (L' := [mA 1545, mI 0]) rfl ?_
  exact fX11_readLaw_2_ok F hX hp h K
theorem vm_X11_lawIs {w : Wd} {l : Launch} {d m : Dt} {a1 : Int} {r : Int} (hp : PB m 1545 11) (h : fX11_lawIs d a1 = some r) : VM w l WF yX11_lawIs cX11_lawIs 2 (some .int) 0 0 0 0 d m [mA 1545, mI a1] (some (mI r)) d m := by
  obtain ⟨x, h, K⟩ : ∃ x, fX11_lawIs d a1 = some x ∧ x = r := ⟨_, h, rfl⟩
  refine VM.of (L := [mA 1545, mI a1]) (by decide +kernel) rfl (Nat.le_of_ble_eq_true rfl) fun G F _ => v_fact fun _ hX _ _ => ?_
  unfold fX11_lawIs at h
  refine v_aload_n F dX11_lawIs_0 rfl rfl ?_
  refine gf_X11_281 F dX11_lawIs_1 hp (v := 1576) rfl ?_
  refine v_bipush F dX11_lawIs_4 rfl ⟨by decide, by decide⟩ ?_
  refine v_iload_n F dX11_lawIs_6 rfl rfl ?_
  refine v_iadd F dX11_lawIs_7 ?_
  obtain ⟨x1, ex1, h⟩ := lv_some h
  refine v_nI ex1 ?_
  obtain ⟨hi2, h⟩ := ck_some h
  refine v_iald F dX11_lawIs_8 (ar_X11_43 hX hp) hi2 ?_
  cases h
  cases (show _ = r from K)
  exact v_iret F dX11_lawIs_9
def fX11_beginElection_32P (w : Wd) (l : Launch) (G : Cx) (Q : State → Prop) (m : Dt) (s : Dt × Int) : Prop := V w l WF G Q s.1 m 0 0 32 [mA 1545, mI (s.2)] []
def fX11_beginElection_60P (w : Wd) (l : Launch) (G : Cx) (Q : State → Prop) (m : Dt) (s : Dt × Int) : Prop := V w l WF G Q s.1 m 0 0 60 [mA 1545, mI (s.2)] []
theorem fX11_beginElection_60f_ok {w : Wd} {l : Launch} {G : Cx} {m dd : Dt} {d' : Dt} {s : Dt × Int} {x : ((Dt × Int) ⊕ Dt)} (F : Fx w G cX11_beginElection RX11 2 none { frames := 0, cells := 0, slots := 0, locals := 0 }) (hX : WF dd m) (hp : PB m 1545 11) (h : fX11_beginElection_60f s = some x) (K : (Sum.elim (fX11_beginElection_60P w l G (QM w G WF none d' m 0 0) m) (fun q => q = d')) x) : V w l WF G (QM w G WF none d' m 0 0) s.1 m 0 0 60 [mA 1545, mI (s.2)] [] := by
  obtain ⟨d, v1⟩ := s
  unfold fX11_beginElection_60f at h
  dsimp only at h
  refine v_iload_n F dX11_beginElection_60 rfl rfl ?_
  refine v_bipush F dX11_beginElection_61 rfl ⟨by decide, by decide⟩ ?_
  refine v_icmp_ge F dX11_beginElection_63 rfl (fun hq8 => ?_) (fun hq8 => ?_)
  · rw [if_pos hq8] at h
    obtain ⟨z, hu, ez⟩ := up_some h
    clear h
    subst ez
    have h := hu
    clear hu
    refine v_aload_n F dX11_beginElection_93 rfl rfl ?_
    refine v_iconst F dX11_beginElection_94 ⟨by decide, by decide⟩ ?_
    obtain ⟨d9, ed9, h⟩ := sd_some h
    refine pf_X11_558 F dX11_beginElection_95 hp (Or.inl rfl) ?_
    refine v_nD ed9 ?_
    refine v_aload_n F dX11_beginElection_98 rfl rfl ?_
    refine v_iconst F dX11_beginElection_99 ⟨by decide, by decide⟩ ?_
    obtain ⟨d10, ed10, h⟩ := sd_some h
    refine pf_X11_561 F dX11_beginElection_100 hp (Or.inl rfl) ?_
    refine v_nD ed10 ?_
    refine v_aload_n F dX11_beginElection_103 rfl rfl ?_
    refine v_iconst F dX11_beginElection_104 ⟨by decide, by decide⟩ ?_
    obtain ⟨d11, ed11, h⟩ := sd_some h
    refine pf_X11_564 F dX11_beginElection_105 hp ?_
    refine v_nD ed11 ?_
    cases h
    cases (show _ = d' from K)
    exact v_vret F dX11_beginElection_108
  · rw [if_neg hq8] at h
    refine v_aload_n F dX11_beginElection_66 rfl rfl ?_
    refine gf_X11_549 F dX11_beginElection_67 hp (v := 1613) rfl ?_
    refine v_iload_n F dX11_beginElection_70 rfl rfl ?_
    refine v_iconst F dX11_beginElection_71 ⟨by decide, by decide⟩ ?_
    obtain ⟨hi12, h⟩ := ck_some h
    obtain ⟨d13, ed13, h⟩ := sd_some h
    refine v_iast F dX11_beginElection_72 (ar_X11_93 hX hp) hi12 ?_
    refine v_nD ed13 ?_
    refine v_aload_n F dX11_beginElection_73 rfl rfl ?_
    refine gf_X11_552 F dX11_beginElection_74 hp (v := 1615) rfl ?_
    refine v_iload_n F dX11_beginElection_77 rfl rfl ?_
    refine v_iconst F dX11_beginElection_78 ⟨by decide, by decide⟩ ?_
    obtain ⟨d14, ed14, h⟩ := sd_some h
    refine v_zast F dX11_beginElection_79 (ar_X11_95 hX hp) hi12 ?_
    refine v_nD ed14 ?_
    refine v_aload_n F dX11_beginElection_80 rfl rfl ?_
    refine gf_X11_555 F dX11_beginElection_81 hp (v := 1616) rfl ?_
    refine v_iload_n F dX11_beginElection_84 rfl rfl ?_
    refine v_iconst F dX11_beginElection_85 ⟨by decide, by decide⟩ ?_
    obtain ⟨d15, ed15, h⟩ := sd_some h
    refine v_zast F dX11_beginElection_86 (ar_X11_96 hX hp) hi12 ?_
    refine v_nD ed15 ?_
    obtain ⟨x16, ex16, h⟩ := lv_some h
    refine v_iincN F dX11_beginElection_87 (Nat.le_of_ble_eq_true rfl) rfl ex16 (L' := [mA 1545, mI x16]) rfl ?_
    refine v_goto F dX11_beginElection_90 rfl ?_
    cases h
    exact K
theorem fX11_beginElection_60_ok {w : Wd} {l : Launch} {G : Cx} {d m dd : Dt} {v1 : Int} {d' : Dt} {x : Dt} (F : Fx w G cX11_beginElection RX11 2 none { frames := 0, cells := 0, slots := 0, locals := 0 }) (hX : WF dd m) (hp : PB m 1545 11) (h : fX11_beginElection_60 d v1 = some x) (K : (fun q => q = d') x) : V w l WF G (QM w G WF none d' m 0 0) d m 0 0 60 [mA 1545, mI v1] [] := by
  unfold fX11_beginElection_60 at h
  exact loop_ok (P := fX11_beginElection_60P w l G (QM w G WF none d' m 0 0) m) (fun s x hx h1 h2 => fX11_beginElection_60f_ok F hX hp hx (by
    cases x with
    | inl s' => exact h1 s' rfl
    | inr z => cases h2 z rfl; exact K)) h
theorem fX11_beginElection_32f_ok {w : Wd} {l : Launch} {G : Cx} {m dd : Dt} {d' : Dt} {s : Dt × Int} {x : ((Dt × Int) ⊕ Dt)} (F : Fx w G cX11_beginElection RX11 2 none { frames := 0, cells := 0, slots := 0, locals := 0 }) (hX : WF dd m) (hp : PB m 1545 11) (h : fX11_beginElection_32f s = some x) (K : (Sum.elim (fX11_beginElection_32P w l G (QM w G WF none d' m 0 0) m) (fun q => q = d')) x) : V w l WF G (QM w G WF none d' m 0 0) s.1 m 0 0 32 [mA 1545, mI (s.2)] [] := by
  obtain ⟨d, v1⟩ := s
  unfold fX11_beginElection_32f at h
  dsimp only at h
  refine v_iload_n F dX11_beginElection_32 rfl rfl ?_
  refine v_bipush F dX11_beginElection_33 rfl ⟨by decide, by decide⟩ ?_
  refine v_icmp_ge F dX11_beginElection_35 rfl (fun hq7 => ?_) (fun hq7 => ?_)
  · rw [if_pos hq7] at h
    obtain ⟨z, hu, ez⟩ := up_some h
    clear h
    subst ez
    have h := hu
    clear hu
    refine v_iconst F dX11_beginElection_58 ⟨by decide, by decide⟩ ?_
    refine v_istore_n F dX11_beginElection_59 rfl (Nat.le_of_ble_eq_true rfl) (L' := [mA 1545, mI 0]) rfl ?_
    exact fX11_beginElection_60_ok F hX hp h K
  · rw [if_neg hq7] at h
    refine v_aload_n F dX11_beginElection_38 rfl rfl ?_
    refine gf_X11_488 F dX11_beginElection_39 hp (v := 1589) rfl ?_
    refine v_iload_n F dX11_beginElection_42 rfl rfl ?_
    refine v_iconst F dX11_beginElection_43 ⟨by decide, by decide⟩ ?_
    obtain ⟨hi17, h⟩ := ck_some h
    obtain ⟨d18, ed18, h⟩ := sd_some h
    refine v_iast F dX11_beginElection_44 (ar_X11_65 hX hp) hi17 ?_
    refine v_nD ed18 ?_
    refine v_aload_n F dX11_beginElection_45 rfl rfl ?_
    refine gf_X11_546 F dX11_beginElection_46 hp (v := 1594) rfl ?_
    refine v_iload_n F dX11_beginElection_49 rfl rfl ?_
    refine v_iconst F dX11_beginElection_50 ⟨by decide, by decide⟩ ?_
    obtain ⟨d19, ed19, h⟩ := sd_some h
    refine v_zast F dX11_beginElection_51 (ar_X11_70 hX hp) hi17 ?_
    refine v_nD ed19 ?_
    obtain ⟨x20, ex20, h⟩ := lv_some h
    refine v_iincN F dX11_beginElection_52 (Nat.le_of_ble_eq_true rfl) rfl ex20 (L' := [mA 1545, mI x20]) rfl ?_
    refine v_goto F dX11_beginElection_55 rfl ?_
    cases h
    exact K
theorem fX11_beginElection_32_ok {w : Wd} {l : Launch} {G : Cx} {d m dd : Dt} {v1 : Int} {d' : Dt} {x : Dt} (F : Fx w G cX11_beginElection RX11 2 none { frames := 0, cells := 0, slots := 0, locals := 0 }) (hX : WF dd m) (hp : PB m 1545 11) (h : fX11_beginElection_32 d v1 = some x) (K : (fun q => q = d') x) : V w l WF G (QM w G WF none d' m 0 0) d m 0 0 32 [mA 1545, mI v1] [] := by
  unfold fX11_beginElection_32 at h
  exact loop_ok (P := fX11_beginElection_32P w l G (QM w G WF none d' m 0 0) m) (fun s x hx h1 h2 => fX11_beginElection_32f_ok F hX hp hx (by
    cases x with
    | inl s' => exact h1 s' rfl
    | inr z => cases h2 z rfl; exact K)) h
theorem vm_X11_beginElection {w : Wd} {l : Launch} {d m : Dt} {d' : Dt} (hp : PB m 1545 11) (h : fX11_beginElection d = some d') : VM w l WF yX11_beginElection cX11_beginElection 2 none 0 0 0 0 d m [mA 1545] none d' m := by
  obtain ⟨x, h, K⟩ : ∃ x, fX11_beginElection d = some x ∧ x = d' := ⟨_, h, rfl⟩
  refine VM.of (L := [mA 1545, mU]) (by decide +kernel) rfl (Nat.le_of_ble_eq_true rfl) fun G F _ => v_fact fun _ hX _ _ => ?_
  unfold fX11_beginElection at h
  refine v_aload_n F dX11_beginElection_0 rfl rfl ?_
  refine v_iconst F dX11_beginElection_1 ⟨by decide, by decide⟩ ?_
  obtain ⟨d1, ed1, h⟩ := sd_some h
  refine pf_X11_528 F dX11_beginElection_2 hp ?_
  refine v_nD ed1 ?_
  refine v_aload_n F dX11_beginElection_5 rfl rfl ?_
  refine v_iconst F dX11_beginElection_6 ⟨by decide, by decide⟩ ?_
  obtain ⟨d2, ed2, h⟩ := sd_some h
  refine pf_X11_531 F dX11_beginElection_7 hp (Or.inl rfl) ?_
  refine v_nD ed2 ?_
  refine v_aload_n F dX11_beginElection_10 rfl rfl ?_
  refine v_iconst F dX11_beginElection_11 ⟨by decide, by decide⟩ ?_
  obtain ⟨d3, ed3, h⟩ := sd_some h
  refine pf_X11_534 F dX11_beginElection_12 hp ?_
  refine v_nD ed3 ?_
  refine v_aload_n F dX11_beginElection_15 rfl rfl ?_
  refine v_iconst F dX11_beginElection_16 ⟨by decide, by decide⟩ ?_
  obtain ⟨d4, ed4, h⟩ := sd_some h
  refine pf_X11_537 F dX11_beginElection_17 hp ?_
  refine v_nD ed4 ?_
  refine v_aload_n F dX11_beginElection_20 rfl rfl ?_
  refine v_iconst F dX11_beginElection_21 ⟨by decide, by decide⟩ ?_
  obtain ⟨d5, ed5, h⟩ := sd_some h
  refine pf_X11_540 F dX11_beginElection_22 hp ?_
  refine v_nD ed5 ?_
  refine v_aload_n F dX11_beginElection_25 rfl rfl ?_
  refine v_iconst F dX11_beginElection_26 ⟨by decide, by decide⟩ ?_
  obtain ⟨d6, ed6, h⟩ := sd_some h
  refine pf_X11_543 F dX11_beginElection_27 hp ?_
  refine v_nD ed6 ?_
  refine v_iconst F dX11_beginElection_30 ⟨by decide, by decide⟩ ?_
  refine v_istore_n F dX11_beginElection_31 rfl (Nat.le_of_ble_eq_true rfl) (L' := [mA 1545, mI 0]) rfl ?_
  exact fX11_beginElection_32_ok F hX hp h K
theorem fX11_law_187_ok {w : Wd} {l : Launch} {G : Cx} {d m dd : Dt} {s1 : Int} {d' : Dt} {r : Int} {x : (Dt × Int)} (F : Fx w G cX11_law RX11 2 (some .int) { frames := 13, cells := 0, slots := 0, locals := 291 }) (hX : WF dd m) (hp : PB m 1545 11) (h : fX11_law_187 d s1 = some x) (K : (fun q => q = (d', r)) x) : V w l WF G (QM w G WF (some (mI r)) d' m 0 0) d m 0 0 187 [mA 1545, mU] [mI s1, mA 1545] := by
  unfold fX11_law_187 at h
  obtain ⟨hb20, h⟩ := ck_some h
  obtain ⟨d21, ed21, h⟩ := sd_some h
  refine pf_X11_145 F dX11_law_187 hp hb20 ?_
  refine v_nD ed21 ?_
  refine v_aload_n F dX11_law_190 rfl rfl ?_
  refine v_aload_n F dX11_law_191 rfl rfl ?_
  refine v_bipush F dX11_law_192 rfl ⟨by decide, by decide⟩ ?_
  obtain ⟨x22, hc23, h⟩ := b1_some h
  refine v_callVv (c := 11) F dX11_law_194 cv_X11_466 rfl (PB.ob hp hX (Nat.le_of_ble_eq_true rfl)) (Nat.le_of_ble_eq_true rfl) rfl (vm_X11_lawIs hp hc23) rfl (rOk.of rfl) ?_
  obtain ⟨d24, ed24, h⟩ := sd_some h
  refine pf_X11_469 F dX11_law_197 hp ?_
  refine v_nD ed24 ?_
  refine v_aload_n F dX11_law_200 rfl rfl ?_
  refine v_iconst F dX11_law_201 ⟨by decide, by decide⟩ ?_
  obtain ⟨d25, ed25, h⟩ := sd_some h
  refine pf_X11_472 F dX11_law_202 hp ?_
  refine v_nD ed25 ?_
  refine v_aload_n F dX11_law_205 rfl rfl ?_
  obtain ⟨d26, hc27, h⟩ := bd_some h
  refine v_callV0 (c := 11) F dX11_law_206 cv_X11_475 rfl (PB.ob hp hX (Nat.le_of_ble_eq_true rfl)) (Nat.le_of_ble_eq_true rfl) rfl (vm_X11_beginElection hp hc27) rfl (rOk.of rfl) ?_
  refine v_aload_n F dX11_law_209 rfl rfl ?_
  refine v_bipush F dX11_law_210 rfl ⟨by decide, by decide⟩ ?_
  refine v_aload_n F dX11_law_212 rfl rfl ?_
  refine gf_X11_469 F dX11_law_213 hp ?_
  refine v_iconst F dX11_law_216 ⟨by decide, by decide⟩ ?_
  refine v_iconst F dX11_law_217 ⟨by decide, by decide⟩ ?_
  refine v_iconst F dX11_law_218 ⟨by decide, by decide⟩ ?_
  obtain ⟨d28, hc29, h⟩ := bd_some h
  refine v_callV0 (c := 11) F dX11_law_219 cv_X11_22 rfl (PB.ob hp hX (Nat.le_of_ble_eq_true rfl)) (Nat.le_of_ble_eq_true rfl) rfl (vm_X11_write hp hc29) rfl (rOk.of rfl) ?_
  refine v_aload_n F dX11_law_222 rfl rfl ?_
  refine gf_X11_469 F dX11_law_223 hp ?_
  cases h
  cases (show _ = (d', r) from K)
  exact v_iret F dX11_law_226
theorem vm_X11_law {w : Wd} {l : Launch} {d m : Dt} {d' : Dt} {r : Int} (hp : PB m 1545 11) (h : fX11_law d = some (d', r)) : VM w l WF yX11_law cX11_law 2 (some .int) 13 291 0 0 d m [mA 1545] (some (mI r)) d' m := by
  obtain ⟨x, h, K⟩ : ∃ x, fX11_law d = some x ∧ x = (d', r) := ⟨_, h, rfl⟩
  refine VM.of (L := [mA 1545, mU]) (by decide +kernel) rfl (Nat.le_of_ble_eq_true rfl) fun G F _ => v_fact fun _ hX _ _ => ?_
  unfold fX11_law at h
  refine v_aload_n F dX11_law_0 rfl rfl ?_
  refine v_aload_n F dX11_law_1 rfl rfl ?_
  refine gf_X11_5 F dX11_law_2 hp ?_
  obtain ⟨d1, ed1, h⟩ := sd_some h
  refine pf_X11_158 F dX11_law_5 hp ?_
  refine v_nD ed1 ?_
  refine v_aload_n F dX11_law_8 rfl rfl ?_
  refine v_iconst F dX11_law_9 ⟨by decide, by decide⟩ ?_
  obtain ⟨d2, ed2, h⟩ := sd_some h
  refine pf_X11_5 F dX11_law_10 hp ?_
  refine v_nD ed2 ?_
  refine v_aload_n F dX11_law_13 rfl rfl ?_
  obtain ⟨d3, x5, hc4, h⟩ := b2_some h
  refine v_callVv (c := 11) F dX11_law_14 cv_X11_457 rfl (PB.ob hp hX (Nat.le_of_ble_eq_true rfl)) (Nat.le_of_ble_eq_true rfl) rfl (vm_X11_readLaw hp hc4) rfl (rOk.of rfl) ?_
  refine v_istore_n F dX11_law_17 rfl (Nat.le_of_ble_eq_true rfl) (L' := [mA 1545, mI x5]) rfl ?_
  refine v_iload_n F dX11_law_18 rfl rfl ?_
  refine v_iconst F dX11_law_19 ⟨by decide, by decide⟩ ?_
  refine v_icmp_eq F dX11_law_20 rfl (fun hq6 => ?_) (fun hq6 => ?_)
  · rw [if_pos hq6] at h
    refine v_aload_n F dX11_law_29 rfl rfl ?_
    refine gf_X11_281 F dX11_law_30 hp (v := 1576) rfl ?_
    refine v_iconst F dX11_law_33 ⟨by decide, by decide⟩ ?_
    refine v_aload_n F dX11_law_34 rfl rfl ?_
    refine gf_X11_281 F dX11_law_35 hp (v := 1576) rfl ?_
    refine v_bipush F dX11_law_38 rfl ⟨by decide, by decide⟩ ?_
    refine v_bipush F dX11_law_40 rfl ⟨by decide, by decide⟩ ?_
    obtain ⟨d7, ed7, h⟩ := cd_some h
    refine v_copy (t := 101) F dX11_law_42 ca_X11_460 (ar_X11_43 hX hp) (ar_X11_43 hX hp) (Nat.le_of_ble_eq_true rfl) (Or.inl rfl) rfl rfl ⟨by decide, by decide, by decide, by decide, by decide⟩ rfl ?_
    refine v_nD ed7 ?_
    refine v_aload_n F dX11_law_45 rfl rfl ?_
    refine gf_X11_284 F dX11_law_46 hp (v := 1577) rfl ?_
    refine v_iconst F dX11_law_49 ⟨by decide, by decide⟩ ?_
    refine v_aload_n F dX11_law_50 rfl rfl ?_
    refine gf_X11_284 F dX11_law_51 hp (v := 1577) rfl ?_
    refine v_bipush F dX11_law_54 rfl ⟨by decide, by decide⟩ ?_
    refine v_bipush F dX11_law_56 rfl ⟨by decide, by decide⟩ ?_
    obtain ⟨d8, ed8, h⟩ := cd_some h
    refine v_copy (t := 101) F dX11_law_58 ca_X11_460 (ar_X11_44 hX hp) (ar_X11_44 hX hp) (Nat.le_of_ble_eq_true rfl) (Or.inl rfl) rfl rfl ⟨by decide, by decide, by decide, by decide, by decide⟩ rfl ?_
    refine v_nD ed8 ?_
    refine v_aload_n F dX11_law_61 rfl rfl ?_
    refine gf_X11_287 F dX11_law_62 hp (v := 1569) rfl ?_
    refine v_iconst F dX11_law_65 ⟨by decide, by decide⟩ ?_
    refine v_aload_n F dX11_law_66 rfl rfl ?_
    refine gf_X11_287 F dX11_law_67 hp (v := 1569) rfl ?_
    refine v_sipush F dX11_law_70 rfl ⟨by decide, by decide⟩ ?_
    refine v_sipush F dX11_law_73 rfl ⟨by decide, by decide⟩ ?_
    obtain ⟨d9, ed9, h⟩ := cd_some h
    refine v_copy (t := 101) F dX11_law_76 ca_X11_460 (ar_X11_36 hX hp) (ar_X11_36 hX hp) (Nat.le_of_ble_eq_true rfl) (Or.inl rfl) rfl rfl ⟨by decide, by decide, by decide, by decide, by decide⟩ rfl ?_
    refine v_nD ed9 ?_
    refine v_aload_n F dX11_law_79 rfl rfl ?_
    refine gf_X11_290 F dX11_law_80 hp (v := 1570) rfl ?_
    refine v_iconst F dX11_law_83 ⟨by decide, by decide⟩ ?_
    refine v_aload_n F dX11_law_84 rfl rfl ?_
    refine gf_X11_290 F dX11_law_85 hp (v := 1570) rfl ?_
    refine v_iconst F dX11_law_88 ⟨by decide, by decide⟩ ?_
    refine v_iald F dX11_law_89 (ar_X11_37 hX hp) ⟨by decide, by decide⟩ ?_
    obtain ⟨d10, ed10, h⟩ := sd_some h
    refine v_iast F dX11_law_90 (ar_X11_37 hX hp) ⟨by decide, by decide⟩ ?_
    refine v_nD ed10 ?_
    refine v_aload_n F dX11_law_91 rfl rfl ?_
    refine gf_X11_290 F dX11_law_92 hp (v := 1570) rfl ?_
    refine v_iconst F dX11_law_95 ⟨by decide, by decide⟩ ?_
    refine v_aload_n F dX11_law_96 rfl rfl ?_
    refine gf_X11_290 F dX11_law_97 hp (v := 1570) rfl ?_
    refine v_iconst F dX11_law_100 ⟨by decide, by decide⟩ ?_
    refine v_iald F dX11_law_101 (ar_X11_37 hX hp) ⟨by decide, by decide⟩ ?_
    obtain ⟨d11, ed11, h⟩ := sd_some h
    refine v_iast F dX11_law_102 (ar_X11_37 hX hp) ⟨by decide, by decide⟩ ?_
    refine v_nD ed11 ?_
    refine v_aload_n F dX11_law_103 rfl rfl ?_
    refine gf_X11_313 F dX11_law_104 hp (v := 1572) rfl ?_
    refine v_iconst F dX11_law_107 ⟨by decide, by decide⟩ ?_
    refine v_aload_n F dX11_law_108 rfl rfl ?_
    refine gf_X11_313 F dX11_law_109 hp (v := 1572) rfl ?_
    refine v_bipush F dX11_law_112 rfl ⟨by decide, by decide⟩ ?_
    refine v_bipush F dX11_law_114 rfl ⟨by decide, by decide⟩ ?_
    obtain ⟨d12, ed12, h⟩ := cd_some h
    refine v_copy (t := 101) F dX11_law_116 ca_X11_460 (ar_X11_39 hX hp) (ar_X11_39 hX hp) (Nat.le_of_ble_eq_true rfl) (Or.inl rfl) rfl rfl ⟨by decide, by decide, by decide, by decide, by decide⟩ rfl ?_
    refine v_nD ed12 ?_
    refine v_aload_n F dX11_law_119 rfl rfl ?_
    refine gf_X11_316 F dX11_law_120 hp (v := 1573) rfl ?_
    refine v_iconst F dX11_law_123 ⟨by decide, by decide⟩ ?_
    refine v_aload_n F dX11_law_124 rfl rfl ?_
    refine gf_X11_316 F dX11_law_125 hp (v := 1573) rfl ?_
    refine v_bipush F dX11_law_128 rfl ⟨by decide, by decide⟩ ?_
    refine v_bipush F dX11_law_130 rfl ⟨by decide, by decide⟩ ?_
    obtain ⟨d13, ed13, h⟩ := cd_some h
    refine v_copy (t := 101) F dX11_law_132 ca_X11_460 (ar_X11_40 hX hp) (ar_X11_40 hX hp) (Nat.le_of_ble_eq_true rfl) (Or.inl rfl) rfl rfl ⟨by decide, by decide, by decide, by decide, by decide⟩ rfl ?_
    refine v_nD ed13 ?_
    refine v_aload_n F dX11_law_135 rfl rfl ?_
    refine gf_X11_319 F dX11_law_136 hp (v := 1574) rfl ?_
    refine v_iconst F dX11_law_139 ⟨by decide, by decide⟩ ?_
    refine v_aload_n F dX11_law_140 rfl rfl ?_
    refine gf_X11_319 F dX11_law_141 hp (v := 1574) rfl ?_
    refine v_bipush F dX11_law_144 rfl ⟨by decide, by decide⟩ ?_
    refine v_bipush F dX11_law_146 rfl ⟨by decide, by decide⟩ ?_
    obtain ⟨d14, ed14, h⟩ := cd_some h
    refine v_copy (t := 101) F dX11_law_148 ca_X11_460 (ar_X11_41 hX hp) (ar_X11_41 hX hp) (Nat.le_of_ble_eq_true rfl) (Or.inl rfl) rfl rfl ⟨by decide, by decide, by decide, by decide, by decide⟩ rfl ?_
    refine v_nD ed14 ?_
    refine v_aload_n F dX11_law_151 rfl rfl ?_
    refine gf_X11_322 F dX11_law_152 hp (v := 1575) rfl ?_
    refine v_iconst F dX11_law_155 ⟨by decide, by decide⟩ ?_
    refine v_aload_n F dX11_law_156 rfl rfl ?_
    refine gf_X11_322 F dX11_law_157 hp (v := 1575) rfl ?_
    refine v_bipush F dX11_law_160 rfl ⟨by decide, by decide⟩ ?_
    refine v_bipush F dX11_law_162 rfl ⟨by decide, by decide⟩ ?_
    obtain ⟨d15, ed15, h⟩ := cd_some h
    refine v_copy (t := 101) F dX11_law_164 ca_X11_460 (ar_X11_42 hX hp) (ar_X11_42 hX hp) (Nat.le_of_ble_eq_true rfl) (Or.inl rfl) rfl rfl ⟨by decide, by decide, by decide, by decide, by decide⟩ rfl ?_
    refine v_nD ed15 ?_
    refine v_aload_n F dX11_law_167 rfl rfl ?_
    refine v_iconst F dX11_law_168 ⟨by decide, by decide⟩ ?_
    obtain ⟨d16, ed16, h⟩ := sd_some h
    refine pf_X11_141 F dX11_law_169 hp (Or.inr rfl) ?_
    refine v_nD ed16 ?_
    refine v_aload_n F dX11_law_172 rfl rfl ?_
    refine v_aload_n F dX11_law_173 rfl rfl ?_
    refine v_iconst F dX11_law_174 ⟨by decide, by decide⟩ ?_
    obtain ⟨x17, hc18, h⟩ := b1_some h
    refine v_callVv (c := 11) F dX11_law_175 cv_X11_466 rfl (PB.ob hp hX (Nat.le_of_ble_eq_true rfl)) (Nat.le_of_ble_eq_true rfl) rfl (vm_X11_lawIs hp hc18) rfl (rOk.of rfl) ?_
    refine v_iconst F dX11_law_178 ⟨by decide, by decide⟩ ?_
    refine v_icmp_ne F dX11_law_179 rfl (fun hq19 => ?_) (fun hq19 => ?_)
    · rw [if_neg hq19] at h
      refine v_iconst F dX11_law_186 ⟨by decide, by decide⟩ ?_
      refine v_fgt (L' := [mA 1545, mU]) ⟨Or.inl rfl, Or.inr rfl, trivial⟩ ?_
      exact fX11_law_187_ok F hX hp h K
    · rw [if_pos hq19] at h
      refine v_iconst F dX11_law_182 ⟨by decide, by decide⟩ ?_
      refine v_goto F dX11_law_183 rfl ?_
      refine v_fgt (L' := [mA 1545, mU]) ⟨Or.inl rfl, Or.inr rfl, trivial⟩ ?_
      exact fX11_law_187_ok F hX hp h K
  · rw [if_neg hq6] at h
    refine v_sipush F dX11_law_23 rfl ⟨by decide, by decide⟩ ?_
    refine v_iload_n F dX11_law_26 rfl rfl ?_
    refine v_isub F dX11_law_27 ?_
    cases h
    cases (show _ = (d', r) from K)
    exact v_iret F dX11_law_28
theorem vm_X0_days {w : Wd} {l : Launch} {d m : Dt} {a1 : Int} {r : Int} (hp : PB m 1 0) (h : fX0_days d a1 = some r) : VM w l WF yX0_days cX0_days 2 (some .int) 1 22 0 0 d m [mA 1, mI a1] (some (mI r)) d m := by
  obtain ⟨x, h, K⟩ : ∃ x, fX0_days d a1 = some x ∧ x = r := ⟨_, h, rfl⟩
  refine VM.of (L := [mA 1, mI a1]) (by decide +kernel) rfl (Nat.le_of_ble_eq_true rfl) fun G F _ => v_fact fun _ hX _ _ => ?_
  unfold fX0_days at h
  refine v_aload_n F dX0_days_0 rfl rfl ?_
  refine gf_X0_237 F dX0_days_1 hp ?_
  refine v_if_ne F dX0_days_4 rfl (fun hq1 => ?_) (fun hq1 => ?_)
  · rw [if_neg hq1] at h
    refine v_iload_n F dX0_days_11 rfl rfl ?_
    refine v_iconst F dX0_days_12 ⟨by decide, by decide⟩ ?_
    refine v_iconst F dX0_days_13 ⟨by decide, by decide⟩ ?_
    refine v_callSv F dX0_days_14 cs_X0_163 rfl (vm_X0_within) rfl (rOk.of rfl) ?_
    refine v_if_eq F dX0_days_17 rfl (fun hq2 => ?_) (fun hq2 => ?_)
    · rw [if_pos hq2] at h
      refine v_bipush F dX0_days_32 rfl ⟨by decide, by decide⟩ ?_
      cases h
      cases (show _ = r from K)
      exact v_iret F dX0_days_34
    · rw [if_neg hq2] at h
      refine v_aload_n F dX0_days_20 rfl rfl ?_
      obtain ⟨x3, ex3, h⟩ := lv_some h
      obtain ⟨hn5, h⟩ := ck_some h
      refine gf_X0_42 F dX0_days_21 hp ex3 fun hr4 => ?_
      have x3p := hr4.resolve_left hn5
      refine gf_X0_293 F dX0_days_24 x3p (v := (x3 + 1)) rfl ?_
      refine v_iload_n F dX0_days_27 rfl rfl ?_
      obtain ⟨hi6, h⟩ := ck_some h
      refine v_iald F dX0_days_28 (ar_X4_0 hX x3p) hi6 ?_
      refine v_goto F dX0_days_29 rfl ?_
      cases h
      cases (show _ = r from K)
      exact v_iret F dX0_days_34
  · rw [if_pos hq1] at h
    refine v_iconst F dX0_days_7 ⟨by decide, by decide⟩ ?_
    refine v_goto F dX0_days_8 rfl ?_
    cases h
    cases (show _ = r from K)
    exact v_iret F dX0_days_34
theorem vm_X11_days {w : Wd} {l : Launch} {d m : Dt} {a1 : Int} {r : Int} (hp : PB m 1545 11) (h : fX11_days d a1 = some r) : VM w l WF yX11_days cX11_days 2 (some .int) 1 25 0 0 d m [mA 1545, mI a1] (some (mI r)) d m := by
  obtain ⟨x, h, K⟩ : ∃ x, fX11_days d a1 = some x ∧ x = r := ⟨_, h, rfl⟩
  refine VM.of (L := [mA 1545, mI a1]) (by decide +kernel) rfl (Nat.le_of_ble_eq_true rfl) fun G F _ => v_fact fun _ hX _ _ => ?_
  unfold fX11_days at h
  refine v_aload_n F dX11_days_0 rfl rfl ?_
  refine gf_X11_141 F dX11_days_1 hp ?_
  refine v_if_ne F dX11_days_4 rfl (fun hq1 => ?_) (fun hq1 => ?_)
  · rw [if_neg hq1] at h
    refine v_iload_n F dX11_days_11 rfl rfl ?_
    refine v_i2l F dX11_days_12 ?_
    refine v_lconst0 F dX11_days_13 ?_
    refine v_ldc2 (n := 3) F dX11_days_14 q2728 rfl ⟨by decide, by decide⟩ ?_
    refine v_callSv F dX11_days_17 cs_X11_13 rfl (vm_X11_in) rfl (rOk.of rfl) ?_
    refine v_if_ne F dX11_days_20 rfl (fun hq2 => ?_) (fun hq2 => ?_)
    · rw [if_neg hq2] at h
      refine v_aload_n F dX11_days_28 rfl rfl ?_
      refine v_iload_n F dX11_days_29 rfl rfl ?_
      obtain ⟨x3, hc4, h⟩ := b1_some h
      refine v_callVv (c := 11) F dX11_days_30 cv_X11_466 rfl (PB.ob hp hX (Nat.le_of_ble_eq_true rfl)) (Nat.le_of_ble_eq_true rfl) rfl (vm_X11_lawIs hp hc4) rfl (rOk.of rfl) ?_
      cases h
      cases (show _ = r from K)
      exact v_iret F dX11_days_33
    · rw [if_pos hq2] at h
      refine v_bipush F dX11_days_23 rfl ⟨by decide, by decide⟩ ?_
      refine v_goto F dX11_days_25 rfl ?_
      cases h
      cases (show _ = r from K)
      exact v_iret F dX11_days_33
  · rw [if_pos hq1] at h
    refine v_iconst F dX11_days_7 ⟨by decide, by decide⟩ ?_
    refine v_goto F dX11_days_8 rfl ?_
    cases h
    cases (show _ = r from K)
    exact v_iret F dX11_days_33
theorem vm_X0_isContest {w : Wd} {l : Launch} {d m : Dt} {a1 : Int} {r : Int} (hp : PB m 1 0) (h : fX0_isContest d a1 = some r) : VM w l WF yX0_isContest cX0_isContest 2 (some .boolean) 1 22 0 0 d m [mA 1, mI a1] (some (mI r)) d m := by
  obtain ⟨x, h, K⟩ : ∃ x, fX0_isContest d a1 = some x ∧ x = r := ⟨_, h, rfl⟩
  refine VM.of (L := [mA 1, mI a1]) (by decide +kernel) rfl (Nat.le_of_ble_eq_true rfl) fun G F _ => v_fact fun _ hX _ _ => ?_
  unfold fX0_isContest at h
  refine v_aload_n F dX0_isContest_0 rfl rfl ?_
  refine gf_X0_237 F dX0_isContest_1 hp ?_
  refine v_if_eq F dX0_isContest_4 rfl (fun hq1 => ?_) (fun hq1 => ?_)
  · rw [if_pos hq1] at h
    refine v_iconst F dX0_isContest_28 ⟨by decide, by decide⟩ ?_
    cases h
    cases (show _ = r from K)
    exact v_zret F (Or.inl rfl) dX0_isContest_29
  · rw [if_neg hq1] at h
    refine v_iload_n F dX0_isContest_7 rfl rfl ?_
    refine v_iconst F dX0_isContest_8 ⟨by decide, by decide⟩ ?_
    refine v_aload_n F dX0_isContest_9 rfl rfl ?_
    obtain ⟨x2, ex2, h⟩ := lv_some h
    obtain ⟨hn4, h⟩ := ck_some h
    refine gf_X0_42 F dX0_isContest_10 hp ex2 fun hr3 => ?_
    have x2p := hr3.resolve_left hn4
    refine gf_X0_259 F dX0_isContest_13 x2p ?_
    refine v_iconst F dX0_isContest_16 ⟨by decide, by decide⟩ ?_
    refine v_isub F dX0_isContest_17 ?_
    refine v_callSv F dX0_isContest_18 cs_X0_163 rfl (vm_X0_within) rfl (rOk.of rfl) ?_
    refine v_if_eq F dX0_isContest_21 rfl (fun hq5 => ?_) (fun hq5 => ?_)
    · rw [if_pos hq5] at h
      refine v_iconst F dX0_isContest_28 ⟨by decide, by decide⟩ ?_
      cases h
      cases (show _ = r from K)
      exact v_zret F (Or.inl rfl) dX0_isContest_29
    · rw [if_neg hq5] at h
      refine v_iconst F dX0_isContest_24 ⟨by decide, by decide⟩ ?_
      refine v_goto F dX0_isContest_25 rfl ?_
      cases h
      cases (show _ = r from K)
      exact v_zret F (Or.inr rfl) dX0_isContest_29
def fX9_struck_4P (w : Wd) (l : Launch) (G : Cx) (Q : State → Prop) (m : Dt) (d : Dt) (o : Int) (s : Int × Int) : Prop := V w l WF G Q d m 0 0 4 [mA o, mI (s.1), mI (s.2)] []
theorem fX9_struck_27_ok {w : Wd} {l : Launch} {G : Cx} {d m dd : Dt} {o v2 s0 s1 : Int} {r : Int} {x : ((Int × Int) ⊕ Int)} (F : Fx w G cX9_struck RX9 3 (some .int) { frames := 0, cells := 0, slots := 0, locals := 0 }) (hX : WF dd m) (hp : PB m o 9) (h : fX9_struck_27 d o v2 s0 s1 = some x) (K : (Sum.elim (fX9_struck_4P w l G (QM w G WF (some (mI r)) d m 0 0) m d o) (fun q => q = r)) x) : V w l WF G (QM w G WF (some (mI r)) d m 0 0) d m 0 0 27 [mA o, mU, mI v2] [mI s1, mI s0] := by
  unfold fX9_struck_27 at h
  refine v_iadd F dX9_struck_27 ?_
  obtain ⟨x4, ex4, h⟩ := lv_some h
  refine v_nI ex4 ?_
  refine v_istore_n F dX9_struck_28 rfl (Nat.le_of_ble_eq_true rfl) (L' := [mA o, mI x4, mI v2]) rfl ?_
  obtain ⟨x5, ex5, h⟩ := lv_some h
  refine v_iincN F dX9_struck_29 (Nat.le_of_ble_eq_true rfl) rfl ex5 (L' := [mA o, mI x4, mI x5]) rfl ?_
  refine v_goto F dX9_struck_32 rfl ?_
  cases h
  exact K
theorem fX9_struck_4f_ok {w : Wd} {l : Launch} {G : Cx} {d m dd : Dt} {o : Int} {r : Int} {s : Int × Int} {x : ((Int × Int) ⊕ Int)} (F : Fx w G cX9_struck RX9 3 (some .int) { frames := 0, cells := 0, slots := 0, locals := 0 }) (hX : WF dd m) (hp : PB m o 9) (h : fX9_struck_4f d o s = some x) (K : (Sum.elim (fX9_struck_4P w l G (QM w G WF (some (mI r)) d m 0 0) m d o) (fun q => q = r)) x) : V w l WF G (QM w G WF (some (mI r)) d m 0 0) d m 0 0 4 [mA o, mI (s.1), mI (s.2)] [] := by
  obtain ⟨v1, v2⟩ := s
  unfold fX9_struck_4f at h
  dsimp only at h
  refine v_iload_n F dX9_struck_4 rfl rfl ?_
  refine v_aload_n F dX9_struck_5 rfl rfl ?_
  refine gf_X9_38 F dX9_struck_6 hp ?_
  refine v_icmp_ge F dX9_struck_9 rfl (fun hq1 => ?_) (fun hq1 => ?_)
  · rw [if_pos hq1] at h
    obtain ⟨z, hu, ez⟩ := up_some h
    clear h
    subst ez
    have h := hu
    clear hu
    refine v_iload_n F dX9_struck_35 rfl rfl ?_
    cases h
    cases (show _ = r from K)
    exact v_iret F dX9_struck_36
  · rw [if_neg hq1] at h
    refine v_iload_n F dX9_struck_12 rfl rfl ?_
    refine v_aload_n F dX9_struck_13 rfl rfl ?_
    refine gf_X9_24 F dX9_struck_14 hp (v := (o + 5)) rfl ?_
    refine v_iload_n F dX9_struck_17 rfl rfl ?_
    obtain ⟨hi2, h⟩ := ck_some h
    refine v_zald F dX9_struck_18 (ar_X9_5 hX hp) hi2 ?_
    refine v_if_eq F dX9_struck_19 rfl (fun hq3 => ?_) (fun hq3 => ?_)
    · rw [if_pos hq3] at h
      refine v_iconst F dX9_struck_26 ⟨by decide, by decide⟩ ?_
      refine v_fgt (L' := [mA o, mU, mI v2]) ⟨Or.inl rfl, Or.inr rfl, Or.inl rfl, trivial⟩ ?_
      exact fX9_struck_27_ok F hX hp h K
    · rw [if_neg hq3] at h
      refine v_iconst F dX9_struck_22 ⟨by decide, by decide⟩ ?_
      refine v_goto F dX9_struck_23 rfl ?_
      refine v_fgt (L' := [mA o, mU, mI v2]) ⟨Or.inl rfl, Or.inr rfl, Or.inl rfl, trivial⟩ ?_
      exact fX9_struck_27_ok F hX hp h K
theorem fX9_struck_4_ok {w : Wd} {l : Launch} {G : Cx} {d m dd : Dt} {o v1 v2 : Int} {r : Int} {x : Int} (F : Fx w G cX9_struck RX9 3 (some .int) { frames := 0, cells := 0, slots := 0, locals := 0 }) (hX : WF dd m) (hp : PB m o 9) (h : fX9_struck_4 d o v1 v2 = some x) (K : (fun q => q = r) x) : V w l WF G (QM w G WF (some (mI r)) d m 0 0) d m 0 0 4 [mA o, mI v1, mI v2] [] := by
  unfold fX9_struck_4 at h
  exact loop_ok (P := fX9_struck_4P w l G (QM w G WF (some (mI r)) d m 0 0) m d o) (fun s x hx h1 h2 => fX9_struck_4f_ok F hX hp hx (by
    cases x with
    | inl s' => exact h1 s' rfl
    | inr z => cases h2 z rfl; exact K)) h
theorem vm_X9_struck {w : Wd} {l : Launch} {d m : Dt} {o : Int} {r : Int} (hp : PB m o 9) (h : fX9_struck d o = some r) : VM w l WF yX9_struck cX9_struck 3 (some .int) 0 0 0 0 d m [mA o] (some (mI r)) d m := by
  obtain ⟨x, h, K⟩ : ∃ x, fX9_struck d o = some x ∧ x = r := ⟨_, h, rfl⟩
  refine VM.of (L := [mA o, mU, mU]) (by decide +kernel) rfl (Nat.le_of_ble_eq_true rfl) fun G F _ => v_fact fun _ hX _ _ => ?_
  unfold fX9_struck at h
  refine v_iconst F dX9_struck_0 ⟨by decide, by decide⟩ ?_
  refine v_istore_n F dX9_struck_1 rfl (Nat.le_of_ble_eq_true rfl) (L' := [mA o, mI 0, mU]) rfl ?_
  refine v_iconst F dX9_struck_2 ⟨by decide, by decide⟩ ?_
  refine v_istore_n F dX9_struck_3 rfl (Nat.le_of_ble_eq_true rfl) (L' := [mA o, mI 0, mI 0]) rfl ?_
  exact fX9_struck_4_ok F hX hp h K
theorem vm_X0_contest {w : Wd} {l : Launch} {d m : Dt} {a1 a2 : Int} {r : Int} (hp : PB m 1 0) (h : fX0_contest d a1 a2 = some r) : VM w l WF yX0_contest cX0_contest 4 (some .int) 2 43 0 0 d m [mA 1, mI a1, mI a2] (some (mI r)) d m := by
  obtain ⟨x, h, K⟩ : ∃ x, fX0_contest d a1 a2 = some x ∧ x = r := ⟨_, h, rfl⟩
  refine VM.of (L := [mA 1, mI a1, mI a2, mU]) (by decide +kernel) rfl (Nat.le_of_ble_eq_true rfl) fun G F _ => v_fact fun _ hX _ _ => ?_
  unfold fX0_contest at h
  refine v_aload_n F dX0_contest_0 rfl rfl ?_
  refine v_iload_n F dX0_contest_1 rfl rfl ?_
  obtain ⟨x1, hc2, h⟩ := b1_some h
  refine v_callVv (c := 0) F dX0_contest_2 cv_X0_296 rfl (PB.ob hp hX (Nat.le_of_ble_eq_true rfl)) (Nat.le_of_ble_eq_true rfl) rfl (vm_X0_isContest hp hc2) rfl (rOk.of rfl) ?_
  refine v_if_ne F dX0_contest_5 rfl (fun hq3 => ?_) (fun hq3 => ?_)
  · rw [if_neg hq3] at h
    refine v_aload_n F dX0_contest_10 rfl rfl ?_
    obtain ⟨x4, ex4, h⟩ := lv_some h
    obtain ⟨hn6, h⟩ := ck_some h
    refine gf_X0_42 F dX0_contest_11 hp ex4 fun hr5 => ?_
    have x4p := hr5.resolve_left hn6
    refine gf_X0_299 F dX0_contest_14 x4p (v := (x4 + 11)) rfl ?_
    refine v_iload_n F dX0_contest_17 rfl rfl ?_
    obtain ⟨hi7, h⟩ := ck_some h
    refine v_aaldF (c := 4) (k := 13) F dX0_contest_18 x4p (Nat.le_of_ble_eq_true rfl) (Nat.le_of_ble_eq_true rfl) (by decide) (by decide) rfl (ar_X4_13 hX x4p) (Nat.le_of_ble_eq_true rfl) rfl rfl rfl rfl hi7 (v := ((x4 + 13) + a1)) (by show x4 + 13 + 1 * a1 = _; omega) ?_
    obtain ⟨x8, ex8, h⟩ := lv_some h
    refine v_nA ex8 ?_
    have x8p : PB m x8 6 := by rw [ex8]; exact (ae_X4_13 (i := a1) hX x4p hi7 (v := ((x4 + 13) + a1)) (by omega))
    refine v_astore_n F dX0_contest_19 rfl (Nat.le_of_ble_eq_true rfl) (L' := [mA 1, mI a1, mI a2, mA x8]) rfl ?_
    refine v_iload_n F dX0_contest_20 rfl rfl ?_
    by_cases hq9 : a2 = 0
    · rw [if_pos hq9] at h
      refine v_tableIn F dX0_contest_21 hq9 (by decide) (by decide) rfl rfl ?_
      refine v_aload_n F dX0_contest_60 rfl rfl ?_
      refine gf_X0_303 F dX0_contest_61 x8p ?_
      cases h
      cases (show _ = r from K)
      exact v_iret F dX0_contest_64
    · rw [if_neg hq9] at h
      by_cases hq10 : a2 = 1
      · rw [if_pos hq10] at h
        refine v_tableIn F dX0_contest_21 hq10 (by decide) (by decide) rfl rfl ?_
        refine v_aload_n F dX0_contest_65 rfl rfl ?_
        refine gf_X0_308 F dX0_contest_66 x8p ?_
        cases h
        cases (show _ = r from K)
        exact v_iret F dX0_contest_69
      · rw [if_neg hq10] at h
        by_cases hq11 : a2 = 2
        · rw [if_pos hq11] at h
          refine v_tableIn F dX0_contest_21 hq11 (by decide) (by decide) rfl rfl ?_
          refine v_aload_n F dX0_contest_70 rfl rfl ?_
          refine gf_X0_311 F dX0_contest_71 x8p ?_
          cases h
          cases (show _ = r from K)
          exact v_iret F dX0_contest_74
        · rw [if_neg hq11] at h
          by_cases hq12 : a2 = 3
          · rw [if_pos hq12] at h
            refine v_tableIn F dX0_contest_21 hq12 (by decide) (by decide) rfl rfl ?_
            refine v_aload_n F dX0_contest_75 rfl rfl ?_
            refine gf_X0_314 F dX0_contest_76 x8p ?_
            cases h
            cases (show _ = r from K)
            exact v_iret F dX0_contest_79
          · rw [if_neg hq12] at h
            by_cases hq13 : a2 = 4
            · rw [if_pos hq13] at h
              refine v_tableIn F dX0_contest_21 hq13 (by decide) (by decide) rfl rfl ?_
              refine v_aload_n F dX0_contest_80 rfl rfl ?_
              refine gf_X0_62 F dX0_contest_81 hp (v := 57) rfl ?_
              refine v_iload_n F dX0_contest_84 rfl rfl ?_
              refine v_aaldF (c := 0) (k := 13) F dX0_contest_85 hp (Nat.le_of_ble_eq_true rfl) (Nat.le_of_ble_eq_true rfl) (by decide) (by decide) rfl (ar_X0_13 hX hp) (Nat.le_of_ble_eq_true rfl) rfl rfl rfl rfl hi7 (v := (629 + 8 * a1)) (by show 1 + 628 + 8 * a1 = _; omega) ?_
              refine gf_X0_317 F dX0_contest_86 (ae_X0_13 (i := a1) hX hp hi7 (v := (629 + 8 * a1)) (by omega)) ?_
              cases h
              cases (show _ = r from K)
              exact v_iret F dX0_contest_89
            · rw [if_neg hq13] at h
              by_cases hq14 : a2 = 5
              · rw [if_pos hq14] at h
                refine v_tableIn F dX0_contest_21 hq14 (by decide) (by decide) rfl rfl ?_
                refine v_aload_n F dX0_contest_90 rfl rfl ?_
                refine gf_X0_62 F dX0_contest_91 hp (v := 57) rfl ?_
                refine v_iload_n F dX0_contest_94 rfl rfl ?_
                refine v_aaldF (c := 0) (k := 13) F dX0_contest_95 hp (Nat.le_of_ble_eq_true rfl) (Nat.le_of_ble_eq_true rfl) (by decide) (by decide) rfl (ar_X0_13 hX hp) (Nat.le_of_ble_eq_true rfl) rfl rfl rfl rfl hi7 (v := (629 + 8 * a1)) (by show 1 + 628 + 8 * a1 = _; omega) ?_
                obtain ⟨x15, hc16, h⟩ := b1_some h
                refine v_callVv (c := 9) F dX0_contest_96 cv_X0_320 rfl (PB.ob (ae_X0_13 (i := a1) hX hp hi7 (v := (629 + 8 * a1)) (by omega)) hX (Nat.le_of_ble_eq_true rfl)) (Nat.le_of_ble_eq_true rfl) rfl (vm_X9_struck (ae_X0_13 (i := a1) hX hp hi7 (v := (629 + 8 * a1)) (by omega)) hc16) rfl (rOk.of rfl) ?_
                cases h
                cases (show _ = r from K)
                exact v_iret F dX0_contest_99
              · rw [if_neg hq14] at h
                refine v_tableOut F dX0_contest_21 (by omega) rfl ?_
                refine v_bipush F dX0_contest_100 rfl ⟨by decide, by decide⟩ ?_
                cases h
                cases (show _ = r from K)
                exact v_iret F dX0_contest_102
  · rw [if_pos hq3] at h
    refine v_iconst F dX0_contest_8 ⟨by decide, by decide⟩ ?_
    cases h
    cases (show _ = r from K)
    exact v_iret F dX0_contest_9
theorem vm_X11_isContest {w : Wd} {l : Launch} {d m : Dt} {a1 : Int} (hp : PB m 1545 11) : VM w l WF yX11_isContest cX11_isContest 2 (some .boolean) 1 25 0 0 d m [mA 1545, mI a1] (some (mI (fX11_isContest d a1))) d m := by
  obtain ⟨r, hr⟩ : ∃ r, fX11_isContest d a1 = r := ⟨_, rfl⟩
  rw [hr]
  obtain ⟨x, h, K⟩ : ∃ x, fX11_isContest d a1 = x ∧ x = r := ⟨_, hr, rfl⟩
  refine VM.of (L := [mA 1545, mI a1]) (by decide +kernel) rfl (Nat.le_of_ble_eq_true rfl) fun G F _ => v_fact fun _ hX _ _ => ?_
  unfold fX11_isContest at h
  refine v_aload_n F dX11_isContest_0 rfl rfl ?_
  refine gf_X11_141 F dX11_isContest_1 hp ?_
  refine v_if_eq F dX11_isContest_4 rfl (fun hq1 => ?_) (fun hq1 => ?_)
  · rw [if_pos hq1] at h
    refine v_iconst F dX11_isContest_27 ⟨by decide, by decide⟩ ?_
    subst h
    cases (show _ = r from K)
    exact v_zret F (Or.inl rfl) dX11_isContest_28
  · rw [if_neg hq1] at h
    refine v_iload_n F dX11_isContest_7 rfl rfl ?_
    refine v_i2l F dX11_isContest_8 ?_
    refine v_lconst0 F dX11_isContest_9 ?_
    refine v_aload_n F dX11_isContest_10 rfl rfl ?_
    refine gf_X11_469 F dX11_isContest_11 hp ?_
    refine v_iconst F dX11_isContest_14 ⟨by decide, by decide⟩ ?_
    refine v_isub F dX11_isContest_15 ?_
    refine v_i2l F dX11_isContest_16 ?_
    refine v_callSv F dX11_isContest_17 cs_X11_13 rfl (vm_X11_in) rfl (rOk.of rfl) ?_
    refine v_if_eq F dX11_isContest_20 rfl (fun hq2 => ?_) (fun hq2 => ?_)
    · rw [if_pos hq2] at h
      refine v_iconst F dX11_isContest_27 ⟨by decide, by decide⟩ ?_
      subst h
      cases (show _ = r from K)
      exact v_zret F (Or.inl rfl) dX11_isContest_28
    · rw [if_neg hq2] at h
      refine v_iconst F dX11_isContest_23 ⟨by decide, by decide⟩ ?_
      refine v_goto F dX11_isContest_24 rfl ?_
      subst h
      cases (show _ = r from K)
      exact v_zret F (Or.inr rfl) dX11_isContest_28
theorem fX11_isContest_z {d : Dt} {a1 : Int} : fX11_isContest d a1 = 0 ∨ fX11_isContest d a1 = 1 := by
  unfold fX11_isContest
  repeat' (first | exact Or.inl rfl | exact Or.inr rfl | split | assumption | exact fX11_in_z)
theorem vm_X11_contestIs {w : Wd} {l : Launch} {d m : Dt} {a1 a2 : Int} {r : Int} (hp : PB m 1545 11) (h : fX11_contestIs d a1 a2 = some r) : VM w l WF yX11_contestIs cX11_contestIs 3 (some .int) 0 0 0 0 d m [mA 1545, mI a1, mI a2] (some (mI r)) d m := by
  obtain ⟨x, h, K⟩ : ∃ x, fX11_contestIs d a1 a2 = some x ∧ x = r := ⟨_, h, rfl⟩
  refine VM.of (L := [mA 1545, mI a1, mI a2]) (by decide +kernel) rfl (Nat.le_of_ble_eq_true rfl) fun G F _ => v_fact fun _ hX _ _ => ?_
  unfold fX11_contestIs at h
  refine v_aload_n F dX11_contestIs_0 rfl rfl ?_
  refine gf_X11_284 F dX11_contestIs_1 hp (v := 1577) rfl ?_
  refine v_bipush F dX11_contestIs_4 rfl ⟨by decide, by decide⟩ ?_
  refine v_bipush F dX11_contestIs_6 rfl ⟨by decide, by decide⟩ ?_
  refine v_iload_n F dX11_contestIs_8 rfl rfl ?_
  refine v_iadd F dX11_contestIs_9 ?_
  refine v_imul F dX11_contestIs_10 ?_
  refine v_iload_n F dX11_contestIs_11 rfl rfl ?_
  refine v_iadd F dX11_contestIs_12 ?_
  obtain ⟨x1, ex1, h⟩ := lv_some h
  refine v_nI ex1 ?_
  obtain ⟨hi2, h⟩ := ck_some h
  refine v_iald F dX11_contestIs_13 (ar_X11_44 hX hp) hi2 ?_
  cases h
  cases (show _ = r from K)
  exact v_iret F dX11_contestIs_14
def fX11_struckOf_7P (w : Wd) (l : Launch) (G : Cx) (Q : State → Prop) (m : Dt) (d : Dt) (a1 : Int) (s : Int × Int) : Prop := V w l WF G Q d m 0 0 7 [mA 1545, mI a1, mI (s.1), mI (s.2)] []
theorem fX11_struckOf_37_ok {w : Wd} {l : Launch} {G : Cx} {d m dd : Dt} {a1 v3 s0 s1 : Int} {r : Int} {x : ((Int × Int) ⊕ Int)} (F : Fx w G cX11_struckOf RX11 4 (some .int) { frames := 0, cells := 0, slots := 0, locals := 0 }) (hX : WF dd m) (hp : PB m 1545 11) (h : fX11_struckOf_37 d a1 v3 s0 s1 = some x) (K : (Sum.elim (fX11_struckOf_7P w l G (QM w G WF (some (mI r)) d m 0 0) m d a1) (fun q => q = r)) x) : V w l WF G (QM w G WF (some (mI r)) d m 0 0) d m 0 0 37 [mA 1545, mI a1, mU, mI v3] [mI s1, mI s0] := by
  unfold fX11_struckOf_37 at h
  refine v_iadd F dX11_struckOf_37 ?_
  obtain ⟨x6, ex6, h⟩ := lv_some h
  refine v_nI ex6 ?_
  refine v_istore_n F dX11_struckOf_38 rfl (Nat.le_of_ble_eq_true rfl) (L' := [mA 1545, mI a1, mI x6, mI v3]) rfl ?_
  obtain ⟨x7, ex7, h⟩ := lv_some h
  refine v_iincN F dX11_struckOf_39 (Nat.le_of_ble_eq_true rfl) rfl ex7 (L' := [mA 1545, mI a1, mI x6, mI x7]) rfl ?_
  refine v_goto F dX11_struckOf_42 rfl ?_
  cases h
  exact K
theorem fX11_struckOf_7f_ok {w : Wd} {l : Launch} {G : Cx} {d m dd : Dt} {a1 : Int} {r : Int} {s : Int × Int} {x : ((Int × Int) ⊕ Int)} (F : Fx w G cX11_struckOf RX11 4 (some .int) { frames := 0, cells := 0, slots := 0, locals := 0 }) (hX : WF dd m) (hp : PB m 1545 11) (h : fX11_struckOf_7f d a1 s = some x) (K : (Sum.elim (fX11_struckOf_7P w l G (QM w G WF (some (mI r)) d m 0 0) m d a1) (fun q => q = r)) x) : V w l WF G (QM w G WF (some (mI r)) d m 0 0) d m 0 0 7 [mA 1545, mI a1, mI (s.1), mI (s.2)] [] := by
  obtain ⟨v2, v3⟩ := s
  unfold fX11_struckOf_7f at h
  dsimp only at h
  refine v_iload_n F dX11_struckOf_7 rfl rfl ?_
  refine v_bipush F dX11_struckOf_8 rfl ⟨by decide, by decide⟩ ?_
  refine v_iload_n F dX11_struckOf_10 rfl rfl ?_
  refine v_imul F dX11_struckOf_11 ?_
  refine v_aload_n F dX11_struckOf_12 rfl rfl ?_
  refine gf_X11_488 F dX11_struckOf_13 hp (v := 1589) rfl ?_
  refine v_iload_n F dX11_struckOf_16 rfl rfl ?_
  obtain ⟨hi2, h⟩ := ck_some h
  refine v_iald F dX11_struckOf_17 (ar_X11_65 hX hp) hi2 ?_
  refine v_iadd F dX11_struckOf_18 ?_
  refine v_icmp_ge F dX11_struckOf_19 rfl (fun hq3 => ?_) (fun hq3 => ?_)
  · rw [if_pos hq3] at h
    obtain ⟨z, hu, ez⟩ := up_some h
    clear h
    subst ez
    have h := hu
    clear hu
    refine v_iload_n F dX11_struckOf_45 rfl rfl ?_
    cases h
    cases (show _ = r from K)
    exact v_iret F dX11_struckOf_46
  · rw [if_neg hq3] at h
    refine v_iload_n F dX11_struckOf_22 rfl rfl ?_
    refine v_aload_n F dX11_struckOf_23 rfl rfl ?_
    refine gf_X11_567 F dX11_struckOf_24 hp (v := 1591) rfl ?_
    refine v_iload_n F dX11_struckOf_27 rfl rfl ?_
    obtain ⟨hi4, h⟩ := ck_some h
    refine v_zald F dX11_struckOf_28 (ar_X11_67 hX hp) hi4 ?_
    refine v_if_eq F dX11_struckOf_29 rfl (fun hq5 => ?_) (fun hq5 => ?_)
    · rw [if_pos hq5] at h
      refine v_iconst F dX11_struckOf_36 ⟨by decide, by decide⟩ ?_
      refine v_fgt (L' := [mA 1545, mI a1, mU, mI v3]) ⟨Or.inl rfl, Or.inl rfl, Or.inr rfl, Or.inl rfl, trivial⟩ ?_
      exact fX11_struckOf_37_ok F hX hp h K
    · rw [if_neg hq5] at h
      refine v_iconst F dX11_struckOf_32 ⟨by decide, by decide⟩ ?_
      refine v_goto F dX11_struckOf_33 rfl ?_
      refine v_fgt (L' := [mA 1545, mI a1, mU, mI v3]) ⟨Or.inl rfl, Or.inl rfl, Or.inr rfl, Or.inl rfl, trivial⟩ ?_
      exact fX11_struckOf_37_ok F hX hp h K
theorem fX11_struckOf_7_ok {w : Wd} {l : Launch} {G : Cx} {d m dd : Dt} {a1 v2 v3 : Int} {r : Int} {x : Int} (F : Fx w G cX11_struckOf RX11 4 (some .int) { frames := 0, cells := 0, slots := 0, locals := 0 }) (hX : WF dd m) (hp : PB m 1545 11) (h : fX11_struckOf_7 d a1 v2 v3 = some x) (K : (fun q => q = r) x) : V w l WF G (QM w G WF (some (mI r)) d m 0 0) d m 0 0 7 [mA 1545, mI a1, mI v2, mI v3] [] := by
  unfold fX11_struckOf_7 at h
  exact loop_ok (P := fX11_struckOf_7P w l G (QM w G WF (some (mI r)) d m 0 0) m d a1) (fun s x hx h1 h2 => fX11_struckOf_7f_ok F hX hp hx (by
    cases x with
    | inl s' => exact h1 s' rfl
    | inr z => cases h2 z rfl; exact K)) h
theorem vm_X11_struckOf {w : Wd} {l : Launch} {d m : Dt} {a1 : Int} {r : Int} (hp : PB m 1545 11) (h : fX11_struckOf d a1 = some r) : VM w l WF yX11_struckOf cX11_struckOf 4 (some .int) 0 0 0 0 d m [mA 1545, mI a1] (some (mI r)) d m := by
  obtain ⟨x, h, K⟩ : ∃ x, fX11_struckOf d a1 = some x ∧ x = r := ⟨_, h, rfl⟩
  refine VM.of (L := [mA 1545, mI a1, mU, mU]) (by decide +kernel) rfl (Nat.le_of_ble_eq_true rfl) fun G F _ => v_fact fun _ hX _ _ => ?_
  unfold fX11_struckOf at h
  refine v_iconst F dX11_struckOf_0 ⟨by decide, by decide⟩ ?_
  refine v_istore_n F dX11_struckOf_1 rfl (Nat.le_of_ble_eq_true rfl) (L' := [mA 1545, mI a1, mI 0, mU]) rfl ?_
  refine v_bipush F dX11_struckOf_2 rfl ⟨by decide, by decide⟩ ?_
  refine v_iload_n F dX11_struckOf_4 rfl rfl ?_
  refine v_imul F dX11_struckOf_5 ?_
  obtain ⟨x1, ex1, h⟩ := lv_some h
  refine v_nI ex1 ?_
  refine v_istore_n F dX11_struckOf_6 rfl (Nat.le_of_ble_eq_true rfl) (L' := [mA 1545, mI a1, mI 0, mI x1]) rfl ?_
  exact fX11_struckOf_7_ok F hX hp h K
theorem vm_X11_contest {w : Wd} {l : Launch} {d m : Dt} {a1 a2 : Int} {r : Int} (hp : PB m 1545 11) (h : fX11_contest d a1 a2 = some r) : VM w l WF yX11_contest cX11_contest 3 (some .int) 2 46 0 0 d m [mA 1545, mI a1, mI a2] (some (mI r)) d m := by
  obtain ⟨x, h, K⟩ : ∃ x, fX11_contest d a1 a2 = some x ∧ x = r := ⟨_, h, rfl⟩
  refine VM.of (L := [mA 1545, mI a1, mI a2]) (by decide +kernel) rfl (Nat.le_of_ble_eq_true rfl) fun G F _ => v_fact fun _ hX _ _ => ?_
  unfold fX11_contest at h
  refine v_aload_n F dX11_contest_0 rfl rfl ?_
  refine v_iload_n F dX11_contest_1 rfl rfl ?_
  refine v_callVv (c := 11) F dX11_contest_2 cv_X11_480 rfl (PB.ob hp hX (Nat.le_of_ble_eq_true rfl)) (Nat.le_of_ble_eq_true rfl) rfl (vm_X11_isContest hp) rfl (rOk.of rfl) ?_
  refine v_if_ne F dX11_contest_5 rfl (fun hq1 => ?_) (fun hq1 => ?_)
  · rw [if_neg hq1] at h
    refine v_iload_n F dX11_contest_10 rfl rfl ?_
    refine v_i2l F dX11_contest_11 ?_
    refine v_lconst0 F dX11_contest_12 ?_
    refine v_ldc2 (n := 5) F dX11_contest_13 q2737 rfl ⟨by decide, by decide⟩ ?_
    refine v_callSv F dX11_contest_16 cs_X11_13 rfl (vm_X11_in) rfl (rOk.of rfl) ?_
    refine v_if_ne F dX11_contest_19 rfl (fun hq2 => ?_) (fun hq2 => ?_)
    · rw [if_neg hq2] at h
      refine v_iload_n F dX11_contest_25 rfl rfl ?_
      refine v_iconst F dX11_contest_26 ⟨by decide, by decide⟩ ?_
      refine v_icmp_ge F dX11_contest_27 rfl (fun hq3 => ?_) (fun hq3 => ?_)
      · rw [if_pos hq3] at h
        refine v_iload_n F dX11_contest_39 rfl rfl ?_
        refine v_iconst F dX11_contest_40 ⟨by decide, by decide⟩ ?_
        refine v_icmp_ne F dX11_contest_41 rfl (fun hq4 => ?_) (fun hq4 => ?_)
        · rw [if_neg hq4] at h
          refine v_aload_n F dX11_contest_53 rfl rfl ?_
          refine v_iload_n F dX11_contest_54 rfl rfl ?_
          obtain ⟨x5, hc6, h⟩ := b1_some h
          refine v_callVv (c := 11) F dX11_contest_55 cv_X11_491 rfl (PB.ob hp hX (Nat.le_of_ble_eq_true rfl)) (Nat.le_of_ble_eq_true rfl) rfl (vm_X11_struckOf hp hc6) rfl (rOk.of rfl) ?_
          cases h
          cases (show _ = r from K)
          exact v_iret F dX11_contest_58
        · rw [if_pos hq4] at h
          refine v_aload_n F dX11_contest_44 rfl rfl ?_
          refine gf_X11_488 F dX11_contest_45 hp (v := 1589) rfl ?_
          refine v_iload_n F dX11_contest_48 rfl rfl ?_
          obtain ⟨hi7, h⟩ := ck_some h
          refine v_iald F dX11_contest_49 (ar_X11_65 hX hp) hi7 ?_
          refine v_goto F dX11_contest_50 rfl ?_
          cases h
          cases (show _ = r from K)
          exact v_iret F dX11_contest_58
      · rw [if_neg hq3] at h
        refine v_aload_n F dX11_contest_30 rfl rfl ?_
        refine v_iload_n F dX11_contest_31 rfl rfl ?_
        refine v_iload_n F dX11_contest_32 rfl rfl ?_
        obtain ⟨x8, hc9, h⟩ := b1_some h
        refine v_callVv (c := 11) F dX11_contest_33 cv_X11_485 rfl (PB.ob hp hX (Nat.le_of_ble_eq_true rfl)) (Nat.le_of_ble_eq_true rfl) rfl (vm_X11_contestIs hp hc9) rfl (rOk.of rfl) ?_
        refine v_goto F dX11_contest_36 rfl ?_
        cases h
        cases (show _ = r from K)
        exact v_iret F dX11_contest_58
    · rw [if_pos hq2] at h
      refine v_bipush F dX11_contest_22 rfl ⟨by decide, by decide⟩ ?_
      cases h
      cases (show _ = r from K)
      exact v_iret F dX11_contest_24
  · rw [if_pos hq1] at h
    refine v_iconst F dX11_contest_8 ⟨by decide, by decide⟩ ?_
    cases h
    cases (show _ = r from K)
    exact v_iret F dX11_contest_9
def fX13_lived_22P (w : Wd) (l : Launch) (G : Cx) (Q : State → Prop) (m : Dt) (d : Dt) (o a1 a2 : Int) (s : Int × Int) : Prop := V w l WF G Q d m 0 0 22 [mA o, mI a1, mI a2, mI (s.1), mI (s.2)] []
theorem fX13_lived_22f_ok {w : Wd} {l : Launch} {G : Cx} {d m dd : Dt} {o a1 a2 : Int} {r : Int} {s : Int × Int} {x : ((Int × Int) ⊕ Int)} (F : Fx w G cX13_lived RX13 5 (some .boolean) { frames := 1, cells := 0, slots := 0, locals := 22 }) (hX : WF dd m) (hp : PB m o 12) (h : fX13_lived_22f d o a1 a2 s = some x) (K : (Sum.elim (fX13_lived_22P w l G (QM w G WF (some (mI r)) d m 0 0) m d o a1 a2) (fun q => q = r)) x) : V w l WF G (QM w G WF (some (mI r)) d m 0 0) d m 0 0 22 [mA o, mI a1, mI a2, mI (s.1), mI (s.2)] [] := by
  obtain ⟨v3, v4⟩ := s
  unfold fX13_lived_22f at h
  dsimp only at h
  refine v_iload F dX13_lived_22 rfl ?_
  refine v_aload_n F dX13_lived_24 rfl rfl ?_
  refine gf_X13_65 F dX13_lived_25 hp ?_
  refine v_icmp_ge F dX13_lived_28 rfl (fun hq4 => ?_) (fun hq4 => ?_)
  · rw [if_pos hq4] at h
    obtain ⟨z, hu, ez⟩ := up_some h
    clear h
    subst ez
    have h := hu
    clear hu
    refine v_iload_n F dX13_lived_81 rfl rfl ?_
    obtain ⟨hb, h⟩ := ck_some h
    cases h
    cases (show _ = r from K)
    exact v_zret F hb dX13_lived_82
  · rw [if_neg hq4] at h
    refine v_iload_n F dX13_lived_31 rfl rfl ?_
    refine v_if_eq F dX13_lived_32 rfl (fun hq5 => ?_) (fun hq5 => ?_)
    · rw [if_pos hq5] at h
      obtain ⟨z, hu, ez⟩ := up_some h
      clear h
      subst ez
      have h := hu
      clear hu
      refine v_iload_n F dX13_lived_81 rfl rfl ?_
      obtain ⟨hb, h⟩ := ck_some h
      cases h
      cases (show _ = r from K)
      exact v_zret F hb dX13_lived_82
    · rw [if_neg hq5] at h
      refine v_aload_n F dX13_lived_35 rfl rfl ?_
      refine gf_X13_18 F dX13_lived_36 hp (v := (o + 1)) rfl ?_
      refine v_iload F dX13_lived_39 rfl ?_
      obtain ⟨hi6, h⟩ := ck_some h
      refine v_iald F dX13_lived_41 (ar_X13_6 hX hp) hi6 ?_
      refine v_iload_n F dX13_lived_42 rfl rfl ?_
      refine v_iload_n F dX13_lived_43 rfl rfl ?_
      refine v_isub F dX13_lived_44 ?_
      refine v_iconst F dX13_lived_45 ⟨by decide, by decide⟩ ?_
      refine v_iadd F dX13_lived_46 ?_
      refine v_iload_n F dX13_lived_47 rfl rfl ?_
      refine v_callSv F dX13_lived_48 cs_X13_72 rfl (vm_X0_within) rfl (rOk.of rfl) ?_
      refine v_if_eq F dX13_lived_51 rfl (fun hq7 => ?_) (fun hq7 => ?_)
      · rw [if_pos hq7] at h
        refine v_iconst F dX13_lived_69 ⟨by decide, by decide⟩ ?_
        refine v_goto F dX13_lived_70 rfl ?_
        refine v_istore_n F dX13_lived_74 rfl (Nat.le_of_ble_eq_true rfl) (L' := [mA o, mI a1, mI a2, mI 1, mI v4]) rfl ?_
        obtain ⟨x8, ex8, h⟩ := lv_some h
        refine v_iincN F dX13_lived_75 (Nat.le_of_ble_eq_true rfl) rfl ex8 (L' := [mA o, mI a1, mI a2, mI 1, mI x8]) rfl ?_
        refine v_goto F dX13_lived_78 rfl ?_
        cases h
        exact K
      · rw [if_neg hq7] at h
        refine v_aload_n F dX13_lived_54 rfl rfl ?_
        refine v_aload_n F dX13_lived_55 rfl rfl ?_
        refine gf_X13_18 F dX13_lived_56 hp (v := (o + 1)) rfl ?_
        refine v_iload F dX13_lived_59 rfl ?_
        refine v_iald F dX13_lived_61 (ar_X13_6 hX hp) hi6 ?_
        obtain ⟨x9, hc10, h⟩ := b1_some h
        refine v_callVv (c := 12) F dX13_lived_62 cv_X13_68 rfl (PB.ob hp hX (Nat.le_of_ble_eq_true rfl)) (Nat.le_of_ble_eq_true rfl) rfl (vm_X13_address hp hc10) rfl (rOk.of rfl) ?_
        refine v_iconst F dX13_lived_65 ⟨by decide, by decide⟩ ?_
        refine v_icmp_eq F dX13_lived_66 rfl (fun hq11 => ?_) (fun hq11 => ?_)
        · rw [if_pos hq11] at h
          refine v_iconst F dX13_lived_73 ⟨by decide, by decide⟩ ?_
          refine v_istore_n F dX13_lived_74 rfl (Nat.le_of_ble_eq_true rfl) (L' := [mA o, mI a1, mI a2, mI 0, mI v4]) rfl ?_
          obtain ⟨x12, ex12, h⟩ := lv_some h
          refine v_iincN F dX13_lived_75 (Nat.le_of_ble_eq_true rfl) rfl ex12 (L' := [mA o, mI a1, mI a2, mI 0, mI x12]) rfl ?_
          refine v_goto F dX13_lived_78 rfl ?_
          cases h
          exact K
        · rw [if_neg hq11] at h
          refine v_iconst F dX13_lived_69 ⟨by decide, by decide⟩ ?_
          refine v_goto F dX13_lived_70 rfl ?_
          refine v_istore_n F dX13_lived_74 rfl (Nat.le_of_ble_eq_true rfl) (L' := [mA o, mI a1, mI a2, mI 1, mI v4]) rfl ?_
          obtain ⟨x13, ex13, h⟩ := lv_some h
          refine v_iincN F dX13_lived_75 (Nat.le_of_ble_eq_true rfl) rfl ex13 (L' := [mA o, mI a1, mI a2, mI 1, mI x13]) rfl ?_
          refine v_goto F dX13_lived_78 rfl ?_
          cases h
          exact K
theorem fX13_lived_22_ok {w : Wd} {l : Launch} {G : Cx} {d m dd : Dt} {o a1 a2 v3 v4 : Int} {r : Int} {x : Int} (F : Fx w G cX13_lived RX13 5 (some .boolean) { frames := 1, cells := 0, slots := 0, locals := 22 }) (hX : WF dd m) (hp : PB m o 12) (h : fX13_lived_22 d o a1 a2 v3 v4 = some x) (K : (fun q => q = r) x) : V w l WF G (QM w G WF (some (mI r)) d m 0 0) d m 0 0 22 [mA o, mI a1, mI a2, mI v3, mI v4] [] := by
  unfold fX13_lived_22 at h
  exact loop_ok (P := fX13_lived_22P w l G (QM w G WF (some (mI r)) d m 0 0) m d o a1 a2) (fun s x hx h1 h2 => fX13_lived_22f_ok F hX hp hx (by
    cases x with
    | inl s' => exact h1 s' rfl
    | inr z => cases h2 z rfl; exact K)) h
theorem vm_X13_lived {w : Wd} {l : Launch} {d m : Dt} {o a1 a2 : Int} {r : Int} (hp : PB m o 12) (h : fX13_lived d o a1 a2 = some r) : VM w l WF yX13_lived cX13_lived 5 (some .boolean) 1 22 0 0 d m [mA o, mI a1, mI a2] (some (mI r)) d m := by
  obtain ⟨x, h, K⟩ : ∃ x, fX13_lived d o a1 a2 = some x ∧ x = r := ⟨_, h, rfl⟩
  refine VM.of (L := [mA o, mI a1, mI a2, mU, mU]) (by decide +kernel) rfl (Nat.le_of_ble_eq_true rfl) fun G F _ => v_fact fun _ hX _ _ => ?_
  unfold fX13_lived at h
  refine v_aload_n F dX13_lived_0 rfl rfl ?_
  refine v_iload_n F dX13_lived_1 rfl rfl ?_
  refine v_iload_n F dX13_lived_2 rfl rfl ?_
  refine v_isub F dX13_lived_3 ?_
  refine v_iconst F dX13_lived_4 ⟨by decide, by decide⟩ ?_
  refine v_iadd F dX13_lived_5 ?_
  obtain ⟨x1, hc2, h⟩ := b1_some h
  refine v_callVv (c := 12) F dX13_lived_6 cv_X13_68 rfl (PB.ob hp hX (Nat.le_of_ble_eq_true rfl)) (Nat.le_of_ble_eq_true rfl) rfl (vm_X13_address hp hc2) rfl (rOk.of rfl) ?_
  refine v_iconst F dX13_lived_9 ⟨by decide, by decide⟩ ?_
  refine v_icmp_eq F dX13_lived_10 rfl (fun hq3 => ?_) (fun hq3 => ?_)
  · rw [if_pos hq3] at h
    refine v_iconst F dX13_lived_17 ⟨by decide, by decide⟩ ?_
    refine v_istore_n F dX13_lived_18 rfl (Nat.le_of_ble_eq_true rfl) (L' := [mA o, mI a1, mI a2, mI 0, mU]) rfl ?_
    refine v_iconst F dX13_lived_19 ⟨by decide, by decide⟩ ?_
    refine v_istore F dX13_lived_20 (Nat.le_of_ble_eq_true rfl) (L' := [mA o, mI a1, mI a2, mI 0, mI 0]) rfl ?_
    exact fX13_lived_22_ok F hX hp h K
  · rw [if_neg hq3] at h
    refine v_iconst F dX13_lived_13 ⟨by decide, by decide⟩ ?_
    refine v_goto F dX13_lived_14 rfl ?_
    refine v_istore_n F dX13_lived_18 rfl (Nat.le_of_ble_eq_true rfl) (L' := [mA o, mI a1, mI a2, mI 1, mU]) rfl ?_
    refine v_iconst F dX13_lived_19 ⟨by decide, by decide⟩ ?_
    refine v_istore F dX13_lived_20 (Nat.le_of_ble_eq_true rfl) (L' := [mA o, mI a1, mI a2, mI 1, mI 0]) rfl ?_
    exact fX13_lived_22_ok F hX hp h K
theorem vm_X1_isIn {w : Wd} {l : Launch} {d m : Dt} {a1 a2 a3 : Int} {r : Int} (hp : PB m 3 1) (h : fX1_isIn d a1 a2 a3 = some r) : VM w l WF yX1_isIn cX1_isIn 4 (some .boolean) 2 46 0 0 d m [mA 3, mI a1, mI a2, mI a3] (some (mI r)) d m := by
  obtain ⟨x, h, K⟩ : ∃ x, fX1_isIn d a1 a2 a3 = some x ∧ x = r := ⟨_, h, rfl⟩
  refine VM.of (L := [mA 3, mI a1, mI a2, mI a3]) (by decide +kernel) rfl (Nat.le_of_ble_eq_true rfl) fun G F _ => v_fact fun _ hX _ _ => ?_
  unfold fX1_isIn at h
  refine v_iload_n F dX1_isIn_0 rfl rfl ?_
  refine v_iconst F dX1_isIn_1 ⟨by decide, by decide⟩ ?_
  refine v_icmp_eq F dX1_isIn_2 rfl (fun hq1 => ?_) (fun hq1 => ?_)
  · rw [if_pos hq1] at h
    refine v_iconst F dX1_isIn_25 ⟨by decide, by decide⟩ ?_
    cases h
    cases (show _ = r from K)
    exact v_zret F (Or.inl rfl) dX1_isIn_26
  · rw [if_neg hq1] at h
    refine v_aload_n F dX1_isIn_5 rfl rfl ?_
    refine v_aload_n F dX1_isIn_6 rfl rfl ?_
    refine gf_X1_9 F dX1_isIn_7 hp (v := 4) rfl ?_
    refine v_iload_n F dX1_isIn_10 rfl rfl ?_
    obtain ⟨hi2, h⟩ := ck_some h
    refine v_iald F dX1_isIn_11 (ar_X1_0 hX hp) hi2 ?_
    refine v_iload_n F dX1_isIn_12 rfl rfl ?_
    refine v_iload_n F dX1_isIn_13 rfl rfl ?_
    obtain ⟨x3, hc4, h⟩ := b1_some h
    refine v_callVv (c := 1) F dX1_isIn_14 cv_X1_38 rfl (PB.ob hp hX (Nat.le_of_ble_eq_true rfl)) (Nat.le_of_ble_eq_true rfl) rfl (vm_X1_areaOf hp hc4) rfl (rOk.of rfl) ?_
    refine v_iload_n F dX1_isIn_17 rfl rfl ?_
    refine v_icmp_ne F dX1_isIn_18 rfl (fun hq5 => ?_) (fun hq5 => ?_)
    · rw [if_neg hq5] at h
      refine v_iconst F dX1_isIn_25 ⟨by decide, by decide⟩ ?_
      cases h
      cases (show _ = r from K)
      exact v_zret F (Or.inl rfl) dX1_isIn_26
    · rw [if_pos hq5] at h
      refine v_iconst F dX1_isIn_21 ⟨by decide, by decide⟩ ?_
      refine v_goto F dX1_isIn_22 rfl ?_
      cases h
      cases (show _ = r from K)
      exact v_zret F (Or.inr rfl) dX1_isIn_26
theorem fX4_test_21_ok {w : Wd} {l : Launch} {G : Cx} {d m dd : Dt} {o a1 a2 a4 s0 : Int} {r : Int} {x : Int} (F : Fx w G cX4_test RX4 6 (some .boolean) { frames := 5, cells := 0, slots := 0, locals := 111 }) (hX : WF dd m) (hp : PB m o 4) (hp2 : PB m a2 12) (hp3 : PB m 3 1) (h : fX4_test_21 d o a1 a2 a4 s0 = some x) (K : (fun q => q = r) x) : V w l WF G (QM w G WF (some (mI r)) d m 0 0) d m 0 0 21 [mA o, mI a1, mA a2, mA 3, mU, mU] [mI s0] := by
  unfold fX4_test_21 at h
  refine v_istore F dX4_test_21 (Nat.le_of_ble_eq_true rfl) (L' := [mA o, mI a1, mA a2, mA 3, mU, mI s0]) rfl ?_
  refine v_aload_n F dX4_test_23 rfl rfl ?_
  refine gf_X4_25 F dX4_test_24 hp (v := (o + 6)) rfl ?_
  refine v_iload_n F dX4_test_27 rfl rfl ?_
  obtain ⟨hi3, h⟩ := ck_some h
  refine v_iald F dX4_test_28 (ar_X4_8 hX hp) hi3 ?_
  obtain ⟨x4, ex4, h⟩ := lv_some h
  refine v_nI ex4 ?_
  by_cases hq5 : x4 = 9
  · rw [if_pos hq5] at h
    refine v_lookup F dX4_test_29 rfl (off := 73) (by rw [hq5]; rfl) rfl ?_
    refine v_aload_n F dX4_test_102 rfl rfl ?_
    refine v_aload_n F dX4_test_103 rfl rfl ?_
    refine gf_X4_28 F dX4_test_104 hp (v := (o + 7)) rfl ?_
    refine v_iload_n F dX4_test_107 rfl rfl ?_
    refine v_iald F dX4_test_108 (ar_X4_9 hX hp) hi3 ?_
    refine v_aload_n F dX4_test_109 rfl rfl ?_
    refine v_iload F dX4_test_110 rfl ?_
    obtain ⟨x6, hc7, h⟩ := b1_some h
    refine v_callVv (c := 12) F dX4_test_112 cv_X4_85 rfl (PB.ob hp2 hX (Nat.le_of_ble_eq_true rfl)) (Nat.le_of_ble_eq_true rfl) rfl (vm_X13_address hp2 hc7) rfl (rOk.of rfl) ?_
    refine v_iload F dX4_test_115 rfl ?_
    obtain ⟨x8, hc9, h⟩ := b1_some h
    refine v_callVv (c := 1) F dX4_test_117 cv_X4_89 rfl (PB.ob hp3 hX (Nat.le_of_ble_eq_true rfl)) (Nat.le_of_ble_eq_true rfl) rfl (vm_X1_isIn hp3 hc9) rfl (rOk.of rfl) ?_
    obtain ⟨hb, h⟩ := ck_some h
    cases h
    cases (show _ = r from K)
    exact v_zret F hb dX4_test_120
  · rw [if_neg hq5] at h
    by_cases hq10 : x4 = 17
    · rw [if_pos hq10] at h
      refine v_lookup F dX4_test_29 rfl (off := 35) (by rw [hq10]; rfl) rfl ?_
      refine v_aload_n F dX4_test_64 rfl rfl ?_
      refine v_iload F dX4_test_65 rfl ?_
      refine v_aload_n F dX4_test_67 rfl rfl ?_
      refine gf_X4_51 F dX4_test_68 hp ?_
      obtain ⟨x11, hc12, h⟩ := b1_some h
      refine v_callVv (c := 12) F dX4_test_71 cv_X4_75 rfl (PB.ob hp2 hX (Nat.le_of_ble_eq_true rfl)) (Nat.le_of_ble_eq_true rfl) rfl (vm_X13_age hp2 hc12) rfl (rOk.of rfl) ?_
      refine v_aload_n F dX4_test_74 rfl rfl ?_
      refine gf_X4_28 F dX4_test_75 hp (v := (o + 7)) rfl ?_
      refine v_iload_n F dX4_test_78 rfl rfl ?_
      refine v_iald F dX4_test_79 (ar_X4_9 hX hp) hi3 ?_
      refine v_icmp_lt F dX4_test_80 rfl (fun hq13 => ?_) (fun hq13 => ?_)
      · rw [if_pos hq13] at h
        refine v_iconst F dX4_test_87 ⟨by decide, by decide⟩ ?_
        cases h
        cases (show _ = r from K)
        exact v_zret F (Or.inl rfl) dX4_test_88
      · rw [if_neg hq13] at h
        refine v_iconst F dX4_test_83 ⟨by decide, by decide⟩ ?_
        refine v_goto F dX4_test_84 rfl ?_
        cases h
        cases (show _ = r from K)
        exact v_zret F (Or.inr rfl) dX4_test_88
    · rw [if_neg hq10] at h
      by_cases hq14 : x4 = 18
      · rw [if_pos hq14] at h
        refine v_lookup F dX4_test_29 rfl (off := 60) (by rw [hq14]; rfl) rfl ?_
        refine v_aload_n F dX4_test_89 rfl rfl ?_
        refine v_aload_n F dX4_test_90 rfl rfl ?_
        refine gf_X4_28 F dX4_test_91 hp (v := (o + 7)) rfl ?_
        refine v_iload_n F dX4_test_94 rfl rfl ?_
        refine v_iald F dX4_test_95 (ar_X4_9 hX hp) hi3 ?_
        refine v_iload F dX4_test_96 rfl ?_
        obtain ⟨x15, hc16, h⟩ := b1_some h
        refine v_callVv (c := 12) F dX4_test_98 cv_X4_81 rfl (PB.ob hp2 hX (Nat.le_of_ble_eq_true rfl)) (Nat.le_of_ble_eq_true rfl) rfl (vm_X13_lived hp2 hc16) rfl (rOk.of rfl) ?_
        obtain ⟨hb, h⟩ := ck_some h
        cases h
        cases (show _ = r from K)
        exact v_zret F hb dX4_test_101
      · rw [if_neg hq14] at h
        refine v_lookup F dX4_test_29 rfl (off := 92) (by simp [Op.lookupswitch.offset, Ne.symm hq5, hq5, Ne.symm hq10, hq10, Ne.symm hq14, hq14]) rfl ?_
        refine v_aload_n F dX4_test_121 rfl rfl ?_
        refine v_aload_n F dX4_test_122 rfl rfl ?_
        refine gf_X4_28 F dX4_test_123 hp (v := (o + 7)) rfl ?_
        refine v_iload_n F dX4_test_126 rfl rfl ?_
        refine v_iald F dX4_test_127 (ar_X4_9 hX hp) hi3 ?_
        refine v_iload F dX4_test_128 rfl ?_
        obtain ⟨x17, hc18, h⟩ := b1_some h
        refine v_callVv (c := 12) F dX4_test_130 cv_X4_95 rfl (PB.ob hp2 hX (Nat.le_of_ble_eq_true rfl)) (Nat.le_of_ble_eq_true rfl) rfl (vm_X13_is hp2 hc18) rfl (rOk.of rfl) ?_
        refine v_iconst F dX4_test_133 ⟨by decide, by decide⟩ ?_
        refine v_icmp_ne F dX4_test_134 rfl (fun hq19 => ?_) (fun hq19 => ?_)
        · rw [if_neg hq19] at h
          refine v_iconst F dX4_test_141 ⟨by decide, by decide⟩ ?_
          cases h
          cases (show _ = r from K)
          exact v_zret F (Or.inl rfl) dX4_test_142
        · rw [if_pos hq19] at h
          refine v_iconst F dX4_test_137 ⟨by decide, by decide⟩ ?_
          refine v_goto F dX4_test_138 rfl ?_
          cases h
          cases (show _ = r from K)
          exact v_zret F (Or.inr rfl) dX4_test_142
theorem vm_X4_test {w : Wd} {l : Launch} {d m : Dt} {o a1 a2 a4 : Int} {r : Int} (hp : PB m o 4) (hp2 : PB m a2 12) (hp3 : PB m 3 1) (h : fX4_test d o a1 a2 a4 = some r) : VM w l WF yX4_test cX4_test 6 (some .boolean) 5 111 0 0 d m [mA o, mI a1, mA a2, mA 3, mI a4] (some (mI r)) d m := by
  obtain ⟨x, h, K⟩ : ∃ x, fX4_test d o a1 a2 a4 = some x ∧ x = r := ⟨_, h, rfl⟩
  refine VM.of (L := [mA o, mI a1, mA a2, mA 3, mI a4, mU]) (by decide +kernel) rfl (Nat.le_of_ble_eq_true rfl) fun G F _ => v_fact fun _ hX _ _ => ?_
  unfold fX4_test at h
  refine v_aload_n F dX4_test_0 rfl rfl ?_
  refine gf_X4_31 F dX4_test_1 hp (v := (o + 8)) rfl ?_
  refine v_iload_n F dX4_test_4 rfl rfl ?_
  obtain ⟨hi1, h⟩ := ck_some h
  refine v_iald F dX4_test_5 (ar_X4_10 hX hp) hi1 ?_
  refine v_iconst F dX4_test_6 ⟨by decide, by decide⟩ ?_
  refine v_icmp_ne F dX4_test_7 rfl (fun hq2 => ?_) (fun hq2 => ?_)
  · rw [if_neg hq2] at h
    refine v_aload_n F dX4_test_15 rfl rfl ?_
    refine gf_X4_31 F dX4_test_16 hp (v := (o + 8)) rfl ?_
    refine v_iload_n F dX4_test_19 rfl rfl ?_
    refine v_iald F dX4_test_20 (ar_X4_10 hX hp) hi1 ?_
    refine v_fgt (L' := [mA o, mI a1, mA a2, mA 3, mU, mU]) ⟨Or.inl rfl, Or.inl rfl, Or.inl rfl, Or.inl rfl, Or.inr rfl, Or.inl rfl, trivial⟩ ?_
    exact fX4_test_21_ok F hX hp hp2 hp3 h K
  · rw [if_pos hq2] at h
    refine v_iload F dX4_test_10 rfl ?_
    refine v_goto F dX4_test_12 rfl ?_
    refine v_fgt (L' := [mA o, mI a1, mA a2, mA 3, mU, mU]) ⟨Or.inl rfl, Or.inl rfl, Or.inl rfl, Or.inl rfl, Or.inr rfl, Or.inl rfl, trivial⟩ ?_
    exact fX4_test_21_ok F hX hp hp2 hp3 h K
def fX4_may_31P (w : Wd) (l : Launch) (G : Cx) (Q : State → Prop) (m : Dt) (o a1 a2 v4 : Int) (s : Dt × Int × Int) : Prop := V w l WF G Q s.1 m 0 0 31 [mA o, mA a1, mA a2, mA 3, mI v4, mI (s.2.1), mI (s.2.2), mU] []
theorem fX4_may_82_ok {w : Wd} {l : Launch} {G : Cx} {d m dd : Dt} {o a1 a2 v4 v5 v6 s1 s2 : Int} {d' : Dt} {r : Int} {x : ((Dt × Int × Int) ⊕ (Dt × Int))} (F : Fx w G cX4_may RX4 8 (some .boolean) { frames := 6, cells := 0, slots := 0, locals := 136 }) (hX : WF dd m) (hp : PB m o 4) (hp1 : PB m a1 5) (hp2 : PB m a2 12) (hp3 : PB m 3 1) (h : fX4_may_82 d o a1 a2 v4 v5 v6 s1 s2 = some x) (K : (Sum.elim (fX4_may_31P w l G (QM w G WF (some (mI r)) d' m 0 0) m o a1 a2 v4) (fun q => q = (d', r))) x) : V w l WF G (QM w G WF (some (mI r)) d' m 0 0) d m 0 0 82 [mA o, mA a1, mA a2, mA 3, mI v4, mI v5, mI v6, mU] [mI s2, mI s1, mA (o + 12)] := by
  unfold fX4_may_82 at h
  obtain ⟨hi31, h⟩ := ck_some h
  obtain ⟨d32, ed32, h⟩ := sd_some h
  refine v_zast F dX4_may_82 (ar_X4_15 hX hp) hi31 ?_
  refine v_nD ed32 ?_
  refine v_goto F dX4_may_83 rfl ?_
  obtain ⟨x33, ex33, h⟩ := lv_some h
  refine v_iincN F dX4_may_172 (Nat.le_of_ble_eq_true rfl) rfl ex33 (L' := [mA o, mA a1, mA a2, mA 3, mI v4, mI v5, mI x33, mU]) rfl ?_
  refine v_goto F dX4_may_175 rfl ?_
  cases h
  exact K
theorem fX4_may_31f_ok {w : Wd} {l : Launch} {G : Cx} {m dd : Dt} {o a1 a2 v4 : Int} {d' : Dt} {r : Int} {s : Dt × Int × Int} {x : ((Dt × Int × Int) ⊕ (Dt × Int))} (F : Fx w G cX4_may RX4 8 (some .boolean) { frames := 6, cells := 0, slots := 0, locals := 136 }) (hX : WF dd m) (hp : PB m o 4) (hp1 : PB m a1 5) (hp2 : PB m a2 12) (hp3 : PB m 3 1) (h : fX4_may_31f o a1 a2 v4 s = some x) (K : (Sum.elim (fX4_may_31P w l G (QM w G WF (some (mI r)) d' m 0 0) m o a1 a2 v4) (fun q => q = (d', r))) x) : V w l WF G (QM w G WF (some (mI r)) d' m 0 0) s.1 m 0 0 31 [mA o, mA a1, mA a2, mA 3, mI v4, mI (s.2.1), mI (s.2.2), mU] [] := by
  obtain ⟨d, v5, v6⟩ := s
  unfold fX4_may_31f at h
  dsimp only at h
  refine v_iload F dX4_may_31 rfl ?_
  refine v_aload_n F dX4_may_33 rfl rfl ?_
  refine gf_X4_99 F dX4_may_34 hp1 ?_
  refine v_icmp_ge F dX4_may_37 rfl (fun hq2 => ?_) (fun hq2 => ?_)
  · rw [if_pos hq2] at h
    obtain ⟨z, hu, ez⟩ := up_some h
    clear h
    subst ez
    have h := hu
    clear hu
    refine v_iload F dX4_may_178 rfl ?_
    refine v_if_eq F dX4_may_180 rfl (fun hq3 => ?_) (fun hq3 => ?_)
    · rw [if_pos hq3] at h
      refine v_iconst F dX4_may_192 ⟨by decide, by decide⟩ ?_
      refine v_goto F dX4_may_193 rfl ?_
      cases h
      cases (show _ = (d', r) from K)
      exact v_zret F (Or.inr rfl) dX4_may_197
    · rw [if_neg hq3] at h
      refine v_aload_n F dX4_may_183 rfl rfl ?_
      refine gf_X4_47 F dX4_may_184 hp (v := (o + 12)) rfl ?_
      refine v_iconst F dX4_may_187 ⟨by decide, by decide⟩ ?_
      refine v_zald F dX4_may_188 (ar_X4_15 hX hp) ⟨by decide, by decide⟩ ?_
      refine v_if_eq F dX4_may_189 rfl (fun hq4 => ?_) (fun hq4 => ?_)
      · rw [if_pos hq4] at h
        refine v_iconst F dX4_may_196 ⟨by decide, by decide⟩ ?_
        cases h
        cases (show _ = (d', r) from K)
        exact v_zret F (Or.inl rfl) dX4_may_197
      · rw [if_neg hq4] at h
        refine v_iconst F dX4_may_192 ⟨by decide, by decide⟩ ?_
        refine v_goto F dX4_may_193 rfl ?_
        cases h
        cases (show _ = (d', r) from K)
        exact v_zret F (Or.inr rfl) dX4_may_197
  · rw [if_neg hq2] at h
    refine v_aload_n F dX4_may_40 rfl rfl ?_
    refine gf_X4_102 F dX4_may_41 hp1 (v := (a1 + 1)) rfl ?_
    refine v_iload F dX4_may_44 rfl ?_
    obtain ⟨hi5, h⟩ := ck_some h
    refine v_iald F dX4_may_46 (ar_X5_0 hX hp1) hi5 ?_
    obtain ⟨x6, ex6, h⟩ := lv_some h
    refine v_nI ex6 ?_
    refine v_istore F dX4_may_47 (Nat.le_of_ble_eq_true rfl) (L' := [mA o, mA a1, mA a2, mA 3, mI v4, mI v5, mI v6, mI x6]) rfl ?_
    refine v_iload F dX4_may_49 rfl ?_
    refine v_sipush F dX4_may_51 rfl ⟨by decide, by decide⟩ ?_
    refine v_icmp_ne F dX4_may_54 rfl (fun hq7 => ?_) (fun hq7 => ?_)
    · rw [if_neg hq7] at h
      refine v_iload F dX4_may_86 rfl ?_
      refine v_sipush F dX4_may_88 rfl ⟨by decide, by decide⟩ ?_
      refine v_icmp_ne F dX4_may_91 rfl (fun hq8 => ?_) (fun hq8 => ?_)
      · rw [if_neg hq8] at h
        refine v_iload F dX4_may_119 rfl ?_
        refine v_sipush F dX4_may_121 rfl ⟨by decide, by decide⟩ ?_
        refine v_icmp_ne F dX4_may_124 rfl (fun hq9 => ?_) (fun hq9 => ?_)
        · rw [if_neg hq9] at h
          refine v_aload_n F dX4_may_152 rfl rfl ?_
          refine gf_X4_47 F dX4_may_153 hp (v := (o + 12)) rfl ?_
          refine v_iload F dX4_may_156 rfl ?_
          refine v_aload_n F dX4_may_158 rfl rfl ?_
          refine v_iload F dX4_may_159 rfl ?_
          refine v_aload_n F dX4_may_161 rfl rfl ?_
          refine v_aload_n F dX4_may_162 rfl rfl ?_
          refine v_iload F dX4_may_163 rfl ?_
          obtain ⟨x10, hc11, h⟩ := b1_some h
          refine v_callVv (c := 4) F dX4_may_165 cv_X4_105 rfl (PB.ob hp hX (Nat.le_of_ble_eq_true rfl)) (Nat.le_of_ble_eq_true rfl) rfl (vm_X4_test hp hp2 hp3 hc11) rfl (rOk.of rfl) ?_
          obtain ⟨hi12, h⟩ := ck_some h
          obtain ⟨d13, ed13, h⟩ := sd_some h
          refine v_zast F dX4_may_168 (ar_X4_15 hX hp) hi12 ?_
          refine v_nD ed13 ?_
          obtain ⟨x14, ex14, h⟩ := lv_some h
          refine v_iincN F dX4_may_169 (Nat.le_of_ble_eq_true rfl) rfl ex14 (L' := [mA o, mA a1, mA a2, mA 3, mI v4, mI x14, mI v6, mI x6]) rfl ?_
          obtain ⟨x15, ex15, h⟩ := lv_some h
          refine v_iincN F dX4_may_172 (Nat.le_of_ble_eq_true rfl) rfl ex15 (L' := [mA o, mA a1, mA a2, mA 3, mI v4, mI x14, mI x15, mI x6]) rfl ?_
          refine v_goto F dX4_may_175 rfl ?_
          cases h
          refine v_fgt (L' := [mA o, mA a1, mA a2, mA 3, mI v4, mI x14, mI x15, mU]) ⟨Or.inl rfl, Or.inl rfl, Or.inl rfl, Or.inl rfl, Or.inl rfl, Or.inl rfl, Or.inl rfl, Or.inr rfl, trivial⟩ ?_
          exact K
        · rw [if_pos hq9] at h
          obtain ⟨x16, ex16, h⟩ := lv_some h
          refine v_iincN F dX4_may_127 (Nat.le_of_ble_eq_true rfl) rfl ex16 (L' := [mA o, mA a1, mA a2, mA 3, mI v4, mI x16, mI v6, mI x6]) rfl ?_
          refine v_aload_n F dX4_may_130 rfl rfl ?_
          refine gf_X4_47 F dX4_may_131 hp (v := (o + 12)) rfl ?_
          refine v_iload F dX4_may_134 rfl ?_
          refine v_iconst F dX4_may_136 ⟨by decide, by decide⟩ ?_
          refine v_isub F dX4_may_137 ?_
          obtain ⟨x17, ex17, h⟩ := lv_some h
          refine v_nI ex17 ?_
          refine v_dup2_IA F dX4_may_138 ?_
          obtain ⟨hi18, h⟩ := ck_some h
          refine v_zald F dX4_may_139 (ar_X4_15 hX hp) hi18 ?_
          refine v_aload_n F dX4_may_140 rfl rfl ?_
          refine gf_X4_47 F dX4_may_141 hp (v := (o + 12)) rfl ?_
          refine v_iload F dX4_may_144 rfl ?_
          obtain ⟨hi19, h⟩ := ck_some h
          refine v_zald F dX4_may_146 (ar_X4_15 hX hp) hi19 ?_
          refine v_ior F dX4_may_147 ?_
          obtain ⟨d20, ed20, h⟩ := sd_some h
          refine v_zast F dX4_may_148 (ar_X4_15 hX hp) hi18 ?_
          refine v_nD ed20 ?_
          refine v_goto F dX4_may_149 rfl ?_
          obtain ⟨x21, ex21, h⟩ := lv_some h
          refine v_iincN F dX4_may_172 (Nat.le_of_ble_eq_true rfl) rfl ex21 (L' := [mA o, mA a1, mA a2, mA 3, mI v4, mI x16, mI x21, mI x6]) rfl ?_
          refine v_goto F dX4_may_175 rfl ?_
          cases h
          refine v_fgt (L' := [mA o, mA a1, mA a2, mA 3, mI v4, mI x16, mI x21, mU]) ⟨Or.inl rfl, Or.inl rfl, Or.inl rfl, Or.inl rfl, Or.inl rfl, Or.inl rfl, Or.inl rfl, Or.inr rfl, trivial⟩ ?_
          exact K
      · rw [if_pos hq8] at h
        obtain ⟨x22, ex22, h⟩ := lv_some h
        refine v_iincN F dX4_may_94 (Nat.le_of_ble_eq_true rfl) rfl ex22 (L' := [mA o, mA a1, mA a2, mA 3, mI v4, mI x22, mI v6, mI x6]) rfl ?_
        refine v_aload_n F dX4_may_97 rfl rfl ?_
        refine gf_X4_47 F dX4_may_98 hp (v := (o + 12)) rfl ?_
        refine v_iload F dX4_may_101 rfl ?_
        refine v_iconst F dX4_may_103 ⟨by decide, by decide⟩ ?_
        refine v_isub F dX4_may_104 ?_
        obtain ⟨x23, ex23, h⟩ := lv_some h
        refine v_nI ex23 ?_
        refine v_dup2_IA F dX4_may_105 ?_
        obtain ⟨hi24, h⟩ := ck_some h
        refine v_zald F dX4_may_106 (ar_X4_15 hX hp) hi24 ?_
        refine v_aload_n F dX4_may_107 rfl rfl ?_
        refine gf_X4_47 F dX4_may_108 hp (v := (o + 12)) rfl ?_
        refine v_iload F dX4_may_111 rfl ?_
        obtain ⟨hi25, h⟩ := ck_some h
        refine v_zald F dX4_may_113 (ar_X4_15 hX hp) hi25 ?_
        refine v_iand F dX4_may_114 ?_
        obtain ⟨d26, ed26, h⟩ := sd_some h
        refine v_zast F dX4_may_115 (ar_X4_15 hX hp) hi24 ?_
        refine v_nD ed26 ?_
        refine v_goto F dX4_may_116 rfl ?_
        obtain ⟨x27, ex27, h⟩ := lv_some h
        refine v_iincN F dX4_may_172 (Nat.le_of_ble_eq_true rfl) rfl ex27 (L' := [mA o, mA a1, mA a2, mA 3, mI v4, mI x22, mI x27, mI x6]) rfl ?_
        refine v_goto F dX4_may_175 rfl ?_
        cases h
        refine v_fgt (L' := [mA o, mA a1, mA a2, mA 3, mI v4, mI x22, mI x27, mU]) ⟨Or.inl rfl, Or.inl rfl, Or.inl rfl, Or.inl rfl, Or.inl rfl, Or.inl rfl, Or.inl rfl, Or.inr rfl, trivial⟩ ?_
        exact K
    · rw [if_pos hq7] at h
      refine v_aload_n F dX4_may_57 rfl rfl ?_
      refine gf_X4_47 F dX4_may_58 hp (v := (o + 12)) rfl ?_
      refine v_iload F dX4_may_61 rfl ?_
      refine v_iconst F dX4_may_63 ⟨by decide, by decide⟩ ?_
      refine v_isub F dX4_may_64 ?_
      refine v_aload_n F dX4_may_65 rfl rfl ?_
      refine gf_X4_47 F dX4_may_66 hp (v := (o + 12)) rfl ?_
      refine v_iload F dX4_may_69 rfl ?_
      refine v_iconst F dX4_may_71 ⟨by decide, by decide⟩ ?_
      refine v_isub F dX4_may_72 ?_
      obtain ⟨x28, ex28, h⟩ := lv_some h
      refine v_nI ex28 ?_
      obtain ⟨hi29, h⟩ := ck_some h
      refine v_zald F dX4_may_73 (ar_X4_15 hX hp) hi29 ?_
      refine v_if_ne F dX4_may_74 rfl (fun hq30 => ?_) (fun hq30 => ?_)
      · rw [if_neg hq30] at h
        refine v_iconst F dX4_may_81 ⟨by decide, by decide⟩ ?_
        refine v_fgt (L' := [mA o, mA a1, mA a2, mA 3, mI v4, mI v5, mI v6, mU]) ⟨Or.inl rfl, Or.inl rfl, Or.inl rfl, Or.inl rfl, Or.inl rfl, Or.inl rfl, Or.inl rfl, Or.inr rfl, trivial⟩ ?_
        exact fX4_may_82_ok F hX hp hp1 hp2 hp3 h K
      · rw [if_pos hq30] at h
        refine v_iconst F dX4_may_77 ⟨by decide, by decide⟩ ?_
        refine v_goto F dX4_may_78 rfl ?_
        refine v_fgt (L' := [mA o, mA a1, mA a2, mA 3, mI v4, mI v5, mI v6, mU]) ⟨Or.inl rfl, Or.inl rfl, Or.inl rfl, Or.inl rfl, Or.inl rfl, Or.inl rfl, Or.inl rfl, Or.inr rfl, trivial⟩ ?_
        exact fX4_may_82_ok F hX hp hp1 hp2 hp3 h K
theorem fX4_may_31_ok {w : Wd} {l : Launch} {G : Cx} {d m dd : Dt} {o a1 a2 v4 v5 v6 : Int} {d' : Dt} {r : Int} {x : (Dt × Int)} (F : Fx w G cX4_may RX4 8 (some .boolean) { frames := 6, cells := 0, slots := 0, locals := 136 }) (hX : WF dd m) (hp : PB m o 4) (hp1 : PB m a1 5) (hp2 : PB m a2 12) (hp3 : PB m 3 1) (h : fX4_may_31 d o a1 a2 v4 v5 v6 = some x) (K : (fun q => q = (d', r)) x) : V w l WF G (QM w G WF (some (mI r)) d' m 0 0) d m 0 0 31 [mA o, mA a1, mA a2, mA 3, mI v4, mI v5, mI v6, mU] [] := by
  unfold fX4_may_31 at h
  exact loop_ok (P := fX4_may_31P w l G (QM w G WF (some (mI r)) d' m 0 0) m o a1 a2 v4) (fun s x hx h1 h2 => fX4_may_31f_ok F hX hp hp1 hp2 hp3 hx (by
    cases x with
    | inl s' => exact h1 s' rfl
    | inr z => cases h2 z rfl; exact K)) h
theorem fX4_may_23_ok {w : Wd} {l : Launch} {G : Cx} {d m dd : Dt} {o a1 a2 s0 : Int} {d' : Dt} {r : Int} {x : (Dt × Int)} (F : Fx w G cX4_may RX4 8 (some .boolean) { frames := 6, cells := 0, slots := 0, locals := 136 }) (hX : WF dd m) (hp : PB m o 4) (hp1 : PB m a1 5) (hp2 : PB m a2 12) (hp3 : PB m 3 1) (h : fX4_may_23 d o a1 a2 s0 = some x) (K : (fun q => q = (d', r)) x) : V w l WF G (QM w G WF (some (mI r)) d' m 0 0) d m 0 0 23 [mA o, mA a1, mA a2, mA 3, mU, mU, mU, mU] [mI s0] := by
  unfold fX4_may_23 at h
  refine v_istore F dX4_may_23 (Nat.le_of_ble_eq_true rfl) (L' := [mA o, mA a1, mA a2, mA 3, mI s0, mU, mU, mU]) rfl ?_
  refine v_iconst F dX4_may_25 ⟨by decide, by decide⟩ ?_
  refine v_istore F dX4_may_26 (Nat.le_of_ble_eq_true rfl) (L' := [mA o, mA a1, mA a2, mA 3, mI s0, mI 0, mU, mU]) rfl ?_
  refine v_iconst F dX4_may_28 ⟨by decide, by decide⟩ ?_
  refine v_istore F dX4_may_29 (Nat.le_of_ble_eq_true rfl) (L' := [mA o, mA a1, mA a2, mA 3, mI s0, mI 0, mI 0, mU]) rfl ?_
  exact fX4_may_31_ok F hX hp hp1 hp2 hp3 h K
theorem vm_X4_may {w : Wd} {l : Launch} {d m : Dt} {o a1 a2 : Int} {d' : Dt} {r : Int} (hp : PB m o 4) (hp1 : PB m a1 5) (hp2 : PB m a2 12) (hp3 : PB m 3 1) (h : fX4_may d o a1 a2 = some (d', r)) : VM w l WF yX4_may cX4_may 8 (some .boolean) 6 136 0 0 d m [mA o, mA a1, mA a2, mA 3] (some (mI r)) d' m := by
  obtain ⟨x, h, K⟩ : ∃ x, fX4_may d o a1 a2 = some x ∧ x = (d', r) := ⟨_, h, rfl⟩
  refine VM.of (L := [mA o, mA a1, mA a2, mA 3, mU, mU, mU, mU]) (by decide +kernel) rfl (Nat.le_of_ble_eq_true rfl) fun G F _ => v_fact fun _ hX _ _ => ?_
  unfold fX4_may at h
  refine v_aload_n F dX4_may_0 rfl rfl ?_
  refine v_aload_n F dX4_may_1 rfl rfl ?_
  refine gf_X4_18 F dX4_may_2 hp (v := (o + 2)) rfl ?_
  refine v_acmp_ne F dX4_may_5 rfl (Int.le_of_lt (PB.ob hp1 hX (Nat.le_of_ble_eq_true rfl)).1) (Int.le_of_lt (PB.ob (ob_X4_6 hX hp) hX (Nat.le_of_ble_eq_true rfl)).1) (fun hq1 => ?_) (fun hq1 => ?_)
  · rw [if_neg hq1] at h
    refine v_aload_n F dX4_may_17 rfl rfl ?_
    refine gf_X4_9 F dX4_may_18 hp (v := (o + 1)) rfl ?_
    refine v_iconst F dX4_may_21 ⟨by decide, by decide⟩ ?_
    refine v_iald F dX4_may_22 (ar_X4_0 hX hp) ⟨by decide, by decide⟩ ?_
    exact fX4_may_23_ok F hX hp hp1 hp2 hp3 h K
  · rw [if_pos hq1] at h
    refine v_aload_n F dX4_may_8 rfl rfl ?_
    refine gf_X4_9 F dX4_may_9 hp (v := (o + 1)) rfl ?_
    refine v_iconst F dX4_may_12 ⟨by decide, by decide⟩ ?_
    refine v_iald F dX4_may_13 (ar_X4_0 hX hp) ⟨by decide, by decide⟩ ?_
    refine v_goto F dX4_may_14 rfl ?_
    exact fX4_may_23_ok F hX hp hp1 hp2 hp3 h K
def fX4_fails_31P (w : Wd) (l : Launch) (G : Cx) (Q : State → Prop) (m : Dt) (d : Dt) (o a1 a2 v4 : Int) (s : Int) : Prop := V w l WF G Q d m 0 0 31 [mA o, mA a1, mA a2, mA 3, mI v4, mI (s)] []
theorem fX4_fails_31f_ok {w : Wd} {l : Launch} {G : Cx} {d m dd : Dt} {o a1 a2 v4 : Int} {r : Int} {s : Int} {x : ((Int) ⊕ Int)} (F : Fx w G cX4_fails RX4 6 (some .int) { frames := 6, cells := 0, slots := 0, locals := 136 }) (hX : WF dd m) (hp : PB m o 4) (hp1 : PB m a1 5) (hp2 : PB m a2 12) (hp3 : PB m 3 1) (h : fX4_fails_31f d o a1 a2 v4 s = some x) (K : (Sum.elim (fX4_fails_31P w l G (QM w G WF (some (mI r)) d m 0 0) m d o a1 a2 v4) (fun q => q = r)) x) : V w l WF G (QM w G WF (some (mI r)) d m 0 0) d m 0 0 31 [mA o, mA a1, mA a2, mA 3, mI v4, mI (s)] [] := by
  obtain ⟨v5, rfl⟩ : ∃ z, z = s := ⟨s, rfl⟩
  unfold fX4_fails_31f at h
  dsimp only at h
  refine v_iload F dX4_fails_31 rfl ?_
  refine v_aload_n F dX4_fails_33 rfl rfl ?_
  refine gf_X4_112 F dX4_fails_34 hp1 ?_
  refine v_icmp_ge F dX4_fails_37 rfl (fun hq3 => ?_) (fun hq3 => ?_)
  · rw [if_pos hq3] at h
    obtain ⟨z, hu, ez⟩ := up_some h
    clear h
    subst ez
    have h := hu
    clear hu
    refine v_iconst F dX4_fails_74 ⟨by decide, by decide⟩ ?_
    cases h
    cases (show _ = r from K)
    exact v_iret F dX4_fails_75
  · rw [if_neg hq3] at h
    refine v_aload_n F dX4_fails_40 rfl rfl ?_
    refine v_iload F dX4_fails_41 rfl ?_
    refine v_aload_n F dX4_fails_43 rfl rfl ?_
    refine v_aload_n F dX4_fails_44 rfl rfl ?_
    refine v_iload F dX4_fails_45 rfl ?_
    obtain ⟨x4, hc5, h⟩ := b1_some h
    refine v_callVv (c := 4) F dX4_fails_47 cv_X4_105 rfl (PB.ob hp hX (Nat.le_of_ble_eq_true rfl)) (Nat.le_of_ble_eq_true rfl) rfl (vm_X4_test hp hp2 hp3 hc5) rfl (rOk.of rfl) ?_
    refine v_aload_n F dX4_fails_50 rfl rfl ?_
    refine gf_X4_37 F dX4_fails_51 hp (v := (o + 10)) rfl ?_
    refine v_iload F dX4_fails_54 rfl ?_
    obtain ⟨hi6, h⟩ := ck_some h
    refine v_zald F dX4_fails_56 (ar_X4_12 hX hp) hi6 ?_
    refine v_icmp_ne F dX4_fails_57 rfl (fun hq7 => ?_) (fun hq7 => ?_)
    · rw [if_neg hq7] at h
      obtain ⟨x8, ex8, h⟩ := lv_some h
      refine v_iincN F dX4_fails_68 (Nat.le_of_ble_eq_true rfl) rfl ex8 (L' := [mA o, mA a1, mA a2, mA 3, mI v4, mI x8]) rfl ?_
      refine v_goto F dX4_fails_71 rfl ?_
      cases h
      exact K
    · rw [if_pos hq7] at h
      obtain ⟨z, hu, ez⟩ := up_some h
      clear h
      subst ez
      have h := hu
      clear hu
      refine v_aload_n F dX4_fails_60 rfl rfl ?_
      refine gf_X4_34 F dX4_fails_61 hp (v := (o + 9)) rfl ?_
      refine v_iload F dX4_fails_64 rfl ?_
      refine v_iald F dX4_fails_66 (ar_X4_11 hX hp) hi6 ?_
      cases h
      cases (show _ = r from K)
      exact v_iret F dX4_fails_67
theorem fX4_fails_31_ok {w : Wd} {l : Launch} {G : Cx} {d m dd : Dt} {o a1 a2 v4 v5 : Int} {r : Int} {x : Int} (F : Fx w G cX4_fails RX4 6 (some .int) { frames := 6, cells := 0, slots := 0, locals := 136 }) (hX : WF dd m) (hp : PB m o 4) (hp1 : PB m a1 5) (hp2 : PB m a2 12) (hp3 : PB m 3 1) (h : fX4_fails_31 d o a1 a2 v4 v5 = some x) (K : (fun q => q = r) x) : V w l WF G (QM w G WF (some (mI r)) d m 0 0) d m 0 0 31 [mA o, mA a1, mA a2, mA 3, mI v4, mI v5] [] := by
  unfold fX4_fails_31 at h
  exact loop_ok (P := fX4_fails_31P w l G (QM w G WF (some (mI r)) d m 0 0) m d o a1 a2 v4) (fun s x hx h1 h2 => fX4_fails_31f_ok F hX hp hp1 hp2 hp3 hx (by
    cases x with
    | inl s' => exact h1 s' rfl
    | inr z => cases h2 z rfl; exact K)) h
theorem fX4_fails_23_ok {w : Wd} {l : Launch} {G : Cx} {d m dd : Dt} {o a1 a2 s0 : Int} {r : Int} {x : Int} (F : Fx w G cX4_fails RX4 6 (some .int) { frames := 6, cells := 0, slots := 0, locals := 136 }) (hX : WF dd m) (hp : PB m o 4) (hp1 : PB m a1 5) (hp2 : PB m a2 12) (hp3 : PB m 3 1) (h : fX4_fails_23 d o a1 a2 s0 = some x) (K : (fun q => q = r) x) : V w l WF G (QM w G WF (some (mI r)) d m 0 0) d m 0 0 23 [mA o, mA a1, mA a2, mA 3, mU, mU] [mI s0] := by
  unfold fX4_fails_23 at h
  refine v_istore F dX4_fails_23 (Nat.le_of_ble_eq_true rfl) (L' := [mA o, mA a1, mA a2, mA 3, mI s0, mU]) rfl ?_
  refine v_aload_n F dX4_fails_25 rfl rfl ?_
  refine gf_X4_109 F dX4_fails_26 hp1 ?_
  obtain ⟨x2, ex2, h⟩ := lv_some h
  refine v_nI ex2 ?_
  refine v_istore F dX4_fails_29 (Nat.le_of_ble_eq_true rfl) (L' := [mA o, mA a1, mA a2, mA 3, mI s0, mI x2]) rfl ?_
  exact fX4_fails_31_ok F hX hp hp1 hp2 hp3 h K
theorem vm_X4_fails {w : Wd} {l : Launch} {d m : Dt} {o a1 a2 : Int} {r : Int} (hp : PB m o 4) (hp1 : PB m a1 5) (hp2 : PB m a2 12) (hp3 : PB m 3 1) (h : fX4_fails d o a1 a2 = some r) : VM w l WF yX4_fails cX4_fails 6 (some .int) 6 136 0 0 d m [mA o, mA a1, mA a2, mA 3] (some (mI r)) d m := by
  obtain ⟨x, h, K⟩ : ∃ x, fX4_fails d o a1 a2 = some x ∧ x = r := ⟨_, h, rfl⟩
  refine VM.of (L := [mA o, mA a1, mA a2, mA 3, mU, mU]) (by decide +kernel) rfl (Nat.le_of_ble_eq_true rfl) fun G F _ => v_fact fun _ hX _ _ => ?_
  unfold fX4_fails at h
  refine v_aload_n F dX4_fails_0 rfl rfl ?_
  refine v_aload_n F dX4_fails_1 rfl rfl ?_
  refine gf_X4_18 F dX4_fails_2 hp (v := (o + 2)) rfl ?_
  refine v_acmp_ne F dX4_fails_5 rfl (Int.le_of_lt (PB.ob hp1 hX (Nat.le_of_ble_eq_true rfl)).1) (Int.le_of_lt (PB.ob (ob_X4_6 hX hp) hX (Nat.le_of_ble_eq_true rfl)).1) (fun hq1 => ?_) (fun hq1 => ?_)
  · rw [if_neg hq1] at h
    refine v_aload_n F dX4_fails_17 rfl rfl ?_
    refine gf_X4_9 F dX4_fails_18 hp (v := (o + 1)) rfl ?_
    refine v_iconst F dX4_fails_21 ⟨by decide, by decide⟩ ?_
    refine v_iald F dX4_fails_22 (ar_X4_0 hX hp) ⟨by decide, by decide⟩ ?_
    exact fX4_fails_23_ok F hX hp hp1 hp2 hp3 h K
  · rw [if_pos hq1] at h
    refine v_aload_n F dX4_fails_8 rfl rfl ?_
    refine gf_X4_9 F dX4_fails_9 hp (v := (o + 1)) rfl ?_
    refine v_iconst F dX4_fails_12 ⟨by decide, by decide⟩ ?_
    refine v_iald F dX4_fails_13 (ar_X4_0 hX hp) ⟨by decide, by decide⟩ ?_
    refine v_goto F dX4_fails_14 rfl ?_
    exact fX4_fails_23_ok F hX hp hp1 hp2 hp3 h K
theorem fX0_may_50_ok {w : Wd} {l : Launch} {G : Cx} {d m dd : Dt} {a1 a2 s0 : Int} {d' : Dt} {r : Int} {x : (Dt × Int)} (F : Fx w G cX0_may RX0 4 (some .int) { frames := 7, cells := 0, slots := 0, locals := 163 }) (hX : WF dd m) (hp : PB m 1 0) (hs0 : PB m s0 5) (h : fX0_may_50 d a1 a2 s0 = some x) (K : (fun q => q = (d', r)) x) : V w l WF G (QM w G WF (some (mI r)) d' m 0 0) d m 0 0 50 [mA 1, mI a1, mU, mU] [mA s0] := by
  unfold fX0_may_50 at h
  refine v_astore_n F dX0_may_50 rfl (Nat.le_of_ble_eq_true rfl) (L' := [mA 1, mI a1, mU, mA s0]) rfl ?_
  refine v_aload_n F dX0_may_51 rfl rfl ?_
  obtain ⟨x8, ex8, h⟩ := lv_some h
  obtain ⟨hn10, h⟩ := ck_some h
  refine gf_X0_42 F dX0_may_52 hp ex8 fun hr9 => ?_
  have x8p := hr9.resolve_left hn10
  refine v_aload_n F dX0_may_55 rfl rfl ?_
  refine v_aload_n F dX0_may_56 rfl rfl ?_
  refine gf_X0_26 F dX0_may_57 hp (v := 9) rfl ?_
  refine v_iload_n F dX0_may_60 rfl rfl ?_
  obtain ⟨hi11, h⟩ := ck_some h
  obtain ⟨x12, ex12, h⟩ := lv_some h
  obtain ⟨hn14, h⟩ := ck_some h
  refine v_aaldN (t := 109) (c := 12) F dX0_may_61 (ar_X0_4 hX hp) (Nat.le_of_ble_eq_true rfl) rfl rfl rfl rfl rfl hi11 ex12 fun hr13 => ?_
  have x12p := hr13.resolve_left hn14
  refine v_aload_n F dX0_may_62 rfl rfl ?_
  refine gf_X0_20 F dX0_may_63 hp (v := 3) rfl ?_
  obtain ⟨d15, x17, hc16, h⟩ := b2_some h
  refine v_callVv (c := 4) F dX0_may_66 cv_X0_328 rfl (PB.ob x8p hX (Nat.le_of_ble_eq_true rfl)) (Nat.le_of_ble_eq_true rfl) rfl (vm_X4_may x8p hs0 x12p (ob_X0_3 hX hp) hc16) rfl (rOk.of rfl) ?_
  refine v_if_eq F dX0_may_69 rfl (fun hq18 => ?_) (fun hq18 => ?_)
  · rw [if_pos hq18] at h
    refine v_aload_n F dX0_may_74 rfl rfl ?_
    refine v_aload_n F dX0_may_75 rfl rfl ?_
    obtain ⟨x19, ex19, h⟩ := lv_some h
    obtain ⟨hn21, h⟩ := ck_some h
    refine gf_X0_42 F dX0_may_76 hp ex19 fun hr20 => ?_
    have x19p := hr20.resolve_left hn21
    refine v_aload_n F dX0_may_79 rfl rfl ?_
    refine v_aload_n F dX0_may_80 rfl rfl ?_
    refine gf_X0_26 F dX0_may_81 hp (v := 9) rfl ?_
    refine v_iload_n F dX0_may_84 rfl rfl ?_
    obtain ⟨x22, ex22, h⟩ := lv_some h
    obtain ⟨hn24, h⟩ := ck_some h
    refine v_aaldN (t := 109) (c := 12) F dX0_may_85 (ar_X0_4 hX hp) (Nat.le_of_ble_eq_true rfl) rfl rfl rfl rfl rfl hi11 ex22 fun hr23 => ?_
    have x22p := hr23.resolve_left hn24
    refine v_aload_n F dX0_may_86 rfl rfl ?_
    refine gf_X0_20 F dX0_may_87 hp (v := 3) rfl ?_
    obtain ⟨x25, hc26, h⟩ := b1_some h
    refine v_callVv (c := 4) F dX0_may_90 cv_X0_335 rfl (PB.ob x19p hX (Nat.le_of_ble_eq_true rfl)) (Nat.le_of_ble_eq_true rfl) rfl (vm_X4_fails x19p hs0 x22p (ob_X0_3 hX hp) hc26) rfl (rOk.of rfl) ?_
    obtain ⟨d27, ed27, h⟩ := sd_some h
    refine pf_X0_49 F dX0_may_93 hp ?_
    refine v_nD ed27 ?_
    refine v_iconst F dX0_may_96 ⟨by decide, by decide⟩ ?_
    cases h
    cases (show _ = (d', r) from K)
    exact v_iret F dX0_may_97
  · rw [if_neg hq18] at h
    refine v_iconst F dX0_may_72 ⟨by decide, by decide⟩ ?_
    cases h
    cases (show _ = (d', r) from K)
    exact v_iret F dX0_may_73
theorem vm_X0_may {w : Wd} {l : Launch} {d m : Dt} {a1 a2 : Int} {d' : Dt} {r : Int} (hp : PB m 1 0) (h : fX0_may d a1 a2 = some (d', r)) : VM w l WF yX0_may cX0_may 4 (some .int) 7 163 0 0 d m [mA 1, mI a1, mI a2] (some (mI r)) d' m := by
  obtain ⟨x, h, K⟩ : ∃ x, fX0_may d a1 a2 = some x ∧ x = (d', r) := ⟨_, h, rfl⟩
  refine VM.of (L := [mA 1, mI a1, mI a2, mU]) (by decide +kernel) rfl (Nat.le_of_ble_eq_true rfl) fun G F _ => v_fact fun _ hX _ _ => ?_
  unfold fX0_may at h
  refine v_aload_n F dX0_may_0 rfl rfl ?_
  refine gf_X0_237 F dX0_may_1 hp ?_
  refine v_if_eq F dX0_may_4 rfl (fun hq1 => ?_) (fun hq1 => ?_)
  · rw [if_pos hq1] at h
    refine v_iconst F dX0_may_15 ⟨by decide, by decide⟩ ?_
    cases h
    cases (show _ = (d', r) from K)
    exact v_iret F dX0_may_16
  · rw [if_neg hq1] at h
    refine v_aload_n F dX0_may_7 rfl rfl ?_
    refine v_iload_n F dX0_may_8 rfl rfl ?_
    refine v_callVv (c := 0) F dX0_may_9 cv_X0_210 rfl (PB.ob hp hX (Nat.le_of_ble_eq_true rfl)) (Nat.le_of_ble_eq_true rfl) rfl (vm_X0_isPerson hp) rfl (rOk.of rfl) ?_
    refine v_if_ne F dX0_may_12 rfl (fun hq2 => ?_) (fun hq2 => ?_)
    · rw [if_neg hq2] at h
      refine v_iload_n F dX0_may_17 rfl rfl ?_
      refine v_iconst F dX0_may_18 ⟨by decide, by decide⟩ ?_
      refine v_iconst F dX0_may_19 ⟨by decide, by decide⟩ ?_
      refine v_callSv F dX0_may_20 cs_X0_163 rfl (vm_X0_within) rfl (rOk.of rfl) ?_
      refine v_if_ne F dX0_may_23 rfl (fun hq3 => ?_) (fun hq3 => ?_)
      · rw [if_neg hq3] at h
        refine v_iload_n F dX0_may_29 rfl rfl ?_
        refine v_if_ne F dX0_may_30 rfl (fun hq4 => ?_) (fun hq4 => ?_)
        · rw [if_neg hq4] at h
          refine v_aload_n F dX0_may_43 rfl rfl ?_
          obtain ⟨x5, ex5, h⟩ := lv_some h
          obtain ⟨hn7, h⟩ := ck_some h
          refine gf_X0_42 F dX0_may_44 hp ex5 fun hr6 => ?_
          have x5p := hr6.resolve_left hn7
          refine gf_X0_332 F dX0_may_47 x5p (v := (x5 + 4)) rfl ?_
          refine v_fgt (L' := [mA 1, mI a1, mU, mU]) ⟨Or.inl rfl, Or.inl rfl, Or.inr rfl, Or.inl rfl, trivial⟩ ?_
          exact fX0_may_50_ok F hX hp (ob_X4_7 hX x5p) h K
        · rw [if_pos hq4] at h
          refine v_aload_n F dX0_may_33 rfl rfl ?_
          obtain ⟨x28, ex28, h⟩ := lv_some h
          obtain ⟨hn30, h⟩ := ck_some h
          refine gf_X0_42 F dX0_may_34 hp ex28 fun hr29 => ?_
          have x28p := hr29.resolve_left hn30
          refine gf_X0_324 F dX0_may_37 x28p (v := (x28 + 2)) rfl ?_
          refine v_goto F dX0_may_40 rfl ?_
          refine v_fgt (L' := [mA 1, mI a1, mU, mU]) ⟨Or.inl rfl, Or.inl rfl, Or.inr rfl, Or.inl rfl, trivial⟩ ?_
          exact fX0_may_50_ok F hX hp (ob_X4_6 hX x28p) h K
      · rw [if_pos hq3] at h
        refine v_bipush F dX0_may_26 rfl ⟨by decide, by decide⟩ ?_
        cases h
        cases (show _ = (d', r) from K)
        exact v_iret F dX0_may_28
    · rw [if_pos hq2] at h
      refine v_iconst F dX0_may_15 ⟨by decide, by decide⟩ ?_
      cases h
      cases (show _ = (d', r) from K)
      exact v_iret F dX0_may_16
theorem vm_X11_openLevel {w : Wd} {l : Launch} {d m : Dt} {a1 a2 : Int} {d' : Dt} (hp : PB m 1545 11) (h : fX11_openLevel d a1 a2 = some d') : VM w l WF yX11_openLevel cX11_openLevel 3 none 0 0 0 0 d m [mA 1545, mI a1, mI a2] none d' m := by
  obtain ⟨x, h, K⟩ : ∃ x, fX11_openLevel d a1 a2 = some x ∧ x = d' := ⟨_, h, rfl⟩
  refine VM.of (L := [mA 1545, mI a1, mI a2]) (by decide +kernel) rfl (Nat.le_of_ble_eq_true rfl) fun G F _ => v_fact fun _ hX _ _ => ?_
  unfold fX11_openLevel at h
  refine v_aload_n F dX11_openLevel_0 rfl rfl ?_
  refine gf_X11_497 F dX11_openLevel_1 hp (v := 1578) rfl ?_
  refine v_iload_n F dX11_openLevel_4 rfl rfl ?_
  refine v_iconst F dX11_openLevel_5 ⟨by decide, by decide⟩ ?_
  obtain ⟨hi1, h⟩ := ck_some h
  obtain ⟨d2, ed2, h⟩ := sd_some h
  refine v_zast F dX11_openLevel_6 (ar_X11_51 hX hp) hi1 ?_
  refine v_nD ed2 ?_
  refine v_aload_n F dX11_openLevel_7 rfl rfl ?_
  refine gf_X11_501 F dX11_openLevel_8 hp (v := 1579) rfl ?_
  refine v_iload_n F dX11_openLevel_11 rfl rfl ?_
  refine v_iconst F dX11_openLevel_12 ⟨by decide, by decide⟩ ?_
  obtain ⟨d3, ed3, h⟩ := sd_some h
  refine v_zast F dX11_openLevel_13 (ar_X11_52 hX hp) hi1 ?_
  refine v_nD ed3 ?_
  refine v_aload_n F dX11_openLevel_14 rfl rfl ?_
  refine gf_X11_504 F dX11_openLevel_15 hp (v := 1580) rfl ?_
  refine v_iload_n F dX11_openLevel_18 rfl rfl ?_
  refine v_iconst F dX11_openLevel_19 ⟨by decide, by decide⟩ ?_
  obtain ⟨d4, ed4, h⟩ := sd_some h
  refine v_zast F dX11_openLevel_20 (ar_X11_53 hX hp) hi1 ?_
  refine v_nD ed4 ?_
  refine v_aload_n F dX11_openLevel_21 rfl rfl ?_
  refine gf_X11_507 F dX11_openLevel_22 hp (v := 1581) rfl ?_
  refine v_iload_n F dX11_openLevel_25 rfl rfl ?_
  refine v_iload_n F dX11_openLevel_26 rfl rfl ?_
  obtain ⟨d5, ed5, h⟩ := sd_some h
  refine v_zast F dX11_openLevel_27 (ar_X11_54 hX hp) hi1 ?_
  refine v_nD ed5 ?_
  cases h
  cases (show _ = d' from K)
  exact v_vret F dX11_openLevel_28
theorem vm_X11_isIn {w : Wd} {l : Launch} {d m : Dt} {a1 a2 a3 : Int} {r : Int} (hp : PB m 1545 11) (h : fX11_isIn d a1 a2 a3 = some r) : VM w l WF yX11_isIn cX11_isIn 4 (some .boolean) 2 51 0 0 d m [mA 1545, mI a1, mI a2, mI a3] (some (mI r)) d m := by
  obtain ⟨x, h, K⟩ : ∃ x, fX11_isIn d a1 a2 a3 = some x ∧ x = r := ⟨_, h, rfl⟩
  refine VM.of (L := [mA 1545, mI a1, mI a2, mI a3]) (by decide +kernel) rfl (Nat.le_of_ble_eq_true rfl) fun G F _ => v_fact fun _ hX _ _ => ?_
  unfold fX11_isIn at h
  refine v_iload_n F dX11_isIn_0 rfl rfl ?_
  refine v_if_lt F dX11_isIn_1 rfl (fun hq1 => ?_) (fun hq1 => ?_)
  · rw [if_pos hq1] at h
    refine v_iconst F dX11_isIn_24 ⟨by decide, by decide⟩ ?_
    cases h
    cases (show _ = r from K)
    exact v_zret F (Or.inl rfl) dX11_isIn_25
  · rw [if_neg hq1] at h
    refine v_aload_n F dX11_isIn_4 rfl rfl ?_
    refine v_aload_n F dX11_isIn_5 rfl rfl ?_
    refine gf_X11_64 F dX11_isIn_6 hp (v := 1547) rfl ?_
    refine v_iload_n F dX11_isIn_9 rfl rfl ?_
    obtain ⟨hi2, h⟩ := ck_some h
    refine v_iald F dX11_isIn_10 (ar_X11_4 hX hp) hi2 ?_
    refine v_iload_n F dX11_isIn_11 rfl rfl ?_
    refine v_iload_n F dX11_isIn_12 rfl rfl ?_
    obtain ⟨x3, hc4, h⟩ := b1_some h
    refine v_callVv (c := 11) F dX11_isIn_13 cv_X11_89 rfl (PB.ob hp hX (Nat.le_of_ble_eq_true rfl)) (Nat.le_of_ble_eq_true rfl) rfl (vm_X11_lies hp hc4) rfl (rOk.of rfl) ?_
    refine v_iload_n F dX11_isIn_16 rfl rfl ?_
    refine v_icmp_ne F dX11_isIn_17 rfl (fun hq5 => ?_) (fun hq5 => ?_)
    · rw [if_neg hq5] at h
      refine v_iconst F dX11_isIn_24 ⟨by decide, by decide⟩ ?_
      cases h
      cases (show _ = r from K)
      exact v_zret F (Or.inl rfl) dX11_isIn_25
    · rw [if_pos hq5] at h
      refine v_iconst F dX11_isIn_20 ⟨by decide, by decide⟩ ?_
      refine v_goto F dX11_isIn_21 rfl ?_
      cases h
      cases (show _ = r from K)
      exact v_zret F (Or.inr rfl) dX11_isIn_25
def fX11_holds_139P (w : Wd) (l : Launch) (G : Cx) (Q : State → Prop) (m : Dt) (d : Dt) (a1 a2 a3 v4 v5 : Int) (s : Int) : Prop := V w l WF G Q d m 0 0 139 [mA 1545, mU, mI a2, mU, mI v4, mI v5, mI (s)] []
theorem fX11_holds_139f_ok {w : Wd} {l : Launch} {G : Cx} {d m dd : Dt} {a1 a2 a3 v4 v5 : Int} {r : Int} {s : Int} {x : ((Int) ⊕ Int)} (F : Fx w G cX11_holds RX11 7 (some .boolean) { frames := 4, cells := 0, slots := 0, locals := 91 }) (hX : WF dd m) (hp : PB m 1545 11) (h : fX11_holds_139f d a1 a2 a3 v4 v5 s = some x) (K : (Sum.elim (fX11_holds_139P w l G (QM w G WF (some (mI r)) d m 0 0) m d a1 a2 a3 v4 v5) (fun q => q = r)) x) : V w l WF G (QM w G WF (some (mI r)) d m 0 0) d m 0 0 139 [mA 1545, mU, mI a2, mU, mI v4, mI v5, mI (s)] [] := by
  obtain ⟨v6, rfl⟩ : ∃ z, z = s := ⟨s, rfl⟩
  unfold fX11_holds_139f at h
  dsimp only at h
  refine v_iload F dX11_holds_139 rfl ?_
  refine v_iload F dX11_holds_141 rfl ?_
  refine v_icmp_ge F dX11_holds_143 rfl (fun hq18 => ?_) (fun hq18 => ?_)
  · rw [if_pos hq18] at h
    obtain ⟨z, hu, ez⟩ := up_some h
    clear h
    subst ez
    have h := hu
    clear hu
    refine v_iconst F dX11_holds_167 ⟨by decide, by decide⟩ ?_
    cases h
    cases (show _ = r from K)
    exact v_zret F (Or.inr rfl) dX11_holds_168
  · rw [if_neg hq18] at h
    refine v_aload_n F dX11_holds_146 rfl rfl ?_
    refine v_iload_n F dX11_holds_147 rfl rfl ?_
    refine v_iload F dX11_holds_148 rfl ?_
    refine v_iload F dX11_holds_150 rfl ?_
    refine v_isub F dX11_holds_152 ?_
    obtain ⟨x19, hc20, h⟩ := b1_some h
    refine v_callVv (c := 11) F dX11_holds_153 cv_X11_151 rfl (PB.ob hp hX (Nat.le_of_ble_eq_true rfl)) (Nat.le_of_ble_eq_true rfl) rfl (vm_X11_addressOn hp hc20) rfl (rOk.of rfl) ?_
    refine v_if_ge F dX11_holds_156 rfl (fun hq21 => ?_) (fun hq21 => ?_)
    · rw [if_pos hq21] at h
      obtain ⟨x22, ex22, h⟩ := lv_some h
      refine v_iincN F dX11_holds_161 (Nat.le_of_ble_eq_true rfl) rfl ex22 (L' := [mA 1545, mU, mI a2, mU, mI v4, mI v5, mI x22]) rfl ?_
      refine v_goto F dX11_holds_164 rfl ?_
      cases h
      exact K
    · rw [if_neg hq21] at h
      obtain ⟨z, hu, ez⟩ := up_some h
      clear h
      subst ez
      have h := hu
      clear hu
      refine v_iconst F dX11_holds_159 ⟨by decide, by decide⟩ ?_
      cases h
      cases (show _ = r from K)
      exact v_zret F (Or.inl rfl) dX11_holds_160
theorem fX11_holds_139_ok {w : Wd} {l : Launch} {G : Cx} {d m dd : Dt} {a1 a2 a3 v4 v5 v6 : Int} {r : Int} {x : Int} (F : Fx w G cX11_holds RX11 7 (some .boolean) { frames := 4, cells := 0, slots := 0, locals := 91 }) (hX : WF dd m) (hp : PB m 1545 11) (h : fX11_holds_139 d a1 a2 a3 v4 v5 v6 = some x) (K : (fun q => q = r) x) : V w l WF G (QM w G WF (some (mI r)) d m 0 0) d m 0 0 139 [mA 1545, mU, mI a2, mU, mI v4, mI v5, mI v6] [] := by
  unfold fX11_holds_139 at h
  exact loop_ok (P := fX11_holds_139P w l G (QM w G WF (some (mI r)) d m 0 0) m d a1 a2 a3 v4 v5) (fun s x hx h1 h2 => fX11_holds_139f_ok F hX hp hx (by
    cases x with
    | inl s' => exact h1 s' rfl
    | inr z => cases h2 z rfl; exact K)) h
theorem fX11_holds_39_ok {w : Wd} {l : Launch} {G : Cx} {d m dd : Dt} {a1 a2 a3 s0 : Int} {r : Int} {x : Int} (F : Fx w G cX11_holds RX11 7 (some .boolean) { frames := 4, cells := 0, slots := 0, locals := 91 }) (hX : WF dd m) (hp : PB m 1545 11) (h : fX11_holds_39 d a1 a2 a3 s0 = some x) (K : (fun q => q = r) x) : V w l WF G (QM w G WF (some (mI r)) d m 0 0) d m 0 0 39 [mA 1545, mI a1, mI a2, mU, mU, mU, mU] [mI s0] := by
  unfold fX11_holds_39 at h
  refine v_istore F dX11_holds_39 (Nat.le_of_ble_eq_true rfl) (L' := [mA 1545, mI a1, mI a2, mU, mI s0, mU, mU]) rfl ?_
  refine v_aload_n F dX11_holds_41 rfl rfl ?_
  refine gf_X11_316 F dX11_holds_42 hp (v := 1573) rfl ?_
  refine v_bipush F dX11_holds_45 rfl ⟨by decide, by decide⟩ ?_
  refine v_iload_n F dX11_holds_47 rfl rfl ?_
  refine v_iadd F dX11_holds_48 ?_
  obtain ⟨x7, ex7, h⟩ := lv_some h
  refine v_nI ex7 ?_
  obtain ⟨hi8, h⟩ := ck_some h
  refine v_iald F dX11_holds_49 (ar_X11_40 hX hp) hi8 ?_
  obtain ⟨x9, ex9, h⟩ := lv_some h
  refine v_nI ex9 ?_
  refine v_istore F dX11_holds_50 (Nat.le_of_ble_eq_true rfl) (L' := [mA 1545, mI a1, mI a2, mU, mI s0, mI x9, mU]) rfl ?_
  refine v_aload_n F dX11_holds_52 rfl rfl ?_
  refine gf_X11_313 F dX11_holds_53 hp (v := 1572) rfl ?_
  refine v_bipush F dX11_holds_56 rfl ⟨by decide, by decide⟩ ?_
  refine v_iload_n F dX11_holds_58 rfl rfl ?_
  refine v_iadd F dX11_holds_59 ?_
  obtain ⟨x10, ex10, h⟩ := lv_some h
  refine v_nI ex10 ?_
  obtain ⟨hi11, h⟩ := ck_some h
  refine v_iald F dX11_holds_60 (ar_X11_39 hX hp) hi11 ?_
  obtain ⟨x12, ex12, h⟩ := lv_some h
  refine v_nI ex12 ?_
  by_cases hq13 : x12 = 0
  · rw [if_pos hq13] at h
    refine v_tableIn F dX11_holds_61 hq13 (by decide) (by decide) rfl rfl ?_
    refine v_aload_n F dX11_holds_92 rfl rfl ?_
    refine v_iload_n F dX11_holds_93 rfl rfl ?_
    refine v_iload F dX11_holds_94 rfl ?_
    obtain ⟨x14, hc15, h⟩ := b1_some h
    refine v_callVv (c := 11) F dX11_holds_96 cv_X11_148 rfl (PB.ob hp hX (Nat.le_of_ble_eq_true rfl)) (Nat.le_of_ble_eq_true rfl) rfl (vm_X11_ageOn hp hc15) rfl (rOk.of rfl) ?_
    refine v_iload F dX11_holds_99 rfl ?_
    refine v_icmp_lt F dX11_holds_101 rfl (fun hq16 => ?_) (fun hq16 => ?_)
    · rw [if_pos hq16] at h
      refine v_iconst F dX11_holds_108 ⟨by decide, by decide⟩ ?_
      cases h
      cases (show _ = r from K)
      exact v_zret F (Or.inl rfl) dX11_holds_109
    · rw [if_neg hq16] at h
      refine v_iconst F dX11_holds_104 ⟨by decide, by decide⟩ ?_
      refine v_goto F dX11_holds_105 rfl ?_
      cases h
      cases (show _ = r from K)
      exact v_zret F (Or.inr rfl) dX11_holds_109
  · rw [if_neg hq13] at h
    by_cases hq17 : x12 = 1
    · rw [if_pos hq17] at h
      refine v_tableIn F dX11_holds_61 hq17 (by decide) (by decide) rfl rfl ?_
      refine v_iconst F dX11_holds_136 ⟨by decide, by decide⟩ ?_
      refine v_istore F dX11_holds_137 (Nat.le_of_ble_eq_true rfl) (L' := [mA 1545, mI a1, mI a2, mU, mI s0, mI x9, mI 0]) rfl ?_
      refine v_fgt (L' := [mA 1545, mU, mI a2, mU, mI s0, mI x9, mI 0]) ⟨Or.inl rfl, Or.inr rfl, Or.inl rfl, Or.inl rfl, Or.inl rfl, Or.inl rfl, Or.inl rfl, trivial⟩ ?_
      exact fX11_holds_139_ok F hX hp h K
    · rw [if_neg hq17] at h
      by_cases hq23 : x12 = 2
      · rw [if_pos hq23] at h
        refine v_tableIn F dX11_holds_61 hq23 (by decide) (by decide) rfl rfl ?_
        refine v_aload_n F dX11_holds_110 rfl rfl ?_
        refine v_iload F dX11_holds_111 rfl ?_
        refine v_aload_n F dX11_holds_113 rfl rfl ?_
        refine v_iload_n F dX11_holds_114 rfl rfl ?_
        refine v_iload F dX11_holds_115 rfl ?_
        obtain ⟨x24, hc25, h⟩ := b1_some h
        refine v_callVv (c := 11) F dX11_holds_117 cv_X11_151 rfl (PB.ob hp hX (Nat.le_of_ble_eq_true rfl)) (Nat.le_of_ble_eq_true rfl) rfl (vm_X11_addressOn hp hc25) rfl (rOk.of rfl) ?_
        refine v_iload F dX11_holds_120 rfl ?_
        obtain ⟨x26, hc27, h⟩ := b1_some h
        refine v_callVv (c := 11) F dX11_holds_122 cv_X11_494 rfl (PB.ob hp hX (Nat.le_of_ble_eq_true rfl)) (Nat.le_of_ble_eq_true rfl) rfl (vm_X11_isIn hp hc27) rfl (rOk.of rfl) ?_
        obtain ⟨hb, h⟩ := ck_some h
        cases h
        cases (show _ = r from K)
        exact v_zret F hb dX11_holds_125
      · rw [if_neg hq23] at h
        by_cases hq28 : x12 = 3
        · rw [if_pos hq28] at h
          refine v_tableIn F dX11_holds_61 hq28 (by decide) (by decide) rfl rfl ?_
          refine v_aload_n F dX11_holds_126 rfl rfl ?_
          refine v_iload_n F dX11_holds_127 rfl rfl ?_
          refine v_iload F dX11_holds_128 rfl ?_
          refine v_iload F dX11_holds_130 rfl ?_
          obtain ⟨x29, hc30, h⟩ := b1_some h
          refine v_callVv (c := 11) F dX11_holds_132 cv_X11_154 rfl (PB.ob hp hX (Nat.le_of_ble_eq_true rfl)) (Nat.le_of_ble_eq_true rfl) rfl (vm_X11_isSo hp hc30) rfl (rOk.of rfl) ?_
          obtain ⟨hb, h⟩ := ck_some h
          cases h
          cases (show _ = r from K)
          exact v_zret F hb dX11_holds_135
        · rw [if_neg hq28] at h
          refine v_tableOut F dX11_holds_61 (by omega) rfl ?_
          refine v_iconst F dX11_holds_136 ⟨by decide, by decide⟩ ?_
          refine v_istore F dX11_holds_137 (Nat.le_of_ble_eq_true rfl) (L' := [mA 1545, mI a1, mI a2, mU, mI s0, mI x9, mI 0]) rfl ?_
          refine v_fgt (L' := [mA 1545, mU, mI a2, mU, mI s0, mI x9, mI 0]) ⟨Or.inl rfl, Or.inr rfl, Or.inl rfl, Or.inl rfl, Or.inl rfl, Or.inl rfl, Or.inl rfl, trivial⟩ ?_
          exact fX11_holds_139_ok F hX hp h K
theorem fX11_holds_36_ok {w : Wd} {l : Launch} {G : Cx} {d m dd : Dt} {a1 a2 a3 s1 : Int} {r : Int} {x : Int} (F : Fx w G cX11_holds RX11 7 (some .boolean) { frames := 4, cells := 0, slots := 0, locals := 91 }) (hX : WF dd m) (hp : PB m 1545 11) (h : fX11_holds_36 d a1 a2 a3 s1 = some x) (K : (fun q => q = r) x) : V w l WF G (QM w G WF (some (mI r)) d m 0 0) d m 0 0 36 [mA 1545, mI a1, mI a2, mU, mU, mU, mU] [mI s1, mA 1545] := by
  unfold fX11_holds_36 at h
  obtain ⟨x5, hc6, h⟩ := b1_some h
  refine v_callVv (c := 11) F dX11_holds_36 cv_X11_466 rfl (PB.ob hp hX (Nat.le_of_ble_eq_true rfl)) (Nat.le_of_ble_eq_true rfl) rfl (vm_X11_lawIs hp hc6) rfl (rOk.of rfl) ?_
  exact fX11_holds_39_ok F hX hp h K
theorem vm_X11_holds {w : Wd} {l : Launch} {d m : Dt} {a1 a2 a3 : Int} {r : Int} (hp : PB m 1545 11) (h : fX11_holds d a1 a2 a3 = some r) : VM w l WF yX11_holds cX11_holds 7 (some .boolean) 4 91 0 0 d m [mA 1545, mI a1, mI a2, mI a3] (some (mI r)) d m := by
  obtain ⟨x, h, K⟩ : ∃ x, fX11_holds d a1 a2 a3 = some x ∧ x = r := ⟨_, h, rfl⟩
  refine VM.of (L := [mA 1545, mI a1, mI a2, mI a3, mU, mU, mU]) (by decide +kernel) rfl (Nat.le_of_ble_eq_true rfl) fun G F _ => v_fact fun _ hX _ _ => ?_
  unfold fX11_holds at h
  refine v_aload_n F dX11_holds_0 rfl rfl ?_
  refine gf_X11_319 F dX11_holds_1 hp (v := 1574) rfl ?_
  refine v_bipush F dX11_holds_4 rfl ⟨by decide, by decide⟩ ?_
  refine v_iload_n F dX11_holds_6 rfl rfl ?_
  refine v_iadd F dX11_holds_7 ?_
  obtain ⟨x1, ex1, h⟩ := lv_some h
  refine v_nI ex1 ?_
  obtain ⟨hi2, h⟩ := ck_some h
  refine v_iald F dX11_holds_8 (ar_X11_41 hX hp) hi2 ?_
  refine v_ldc (n := (-2147483648)) F dX11_holds_9 q2483 rfl ⟨by decide, by decide⟩ ?_
  refine v_icmp_eq F dX11_holds_11 rfl (fun hq3 => ?_) (fun hq3 => ?_)
  · rw [if_pos hq3] at h
    refine v_aload_n F dX11_holds_26 rfl rfl ?_
    refine v_iload_n F dX11_holds_27 rfl rfl ?_
    refine v_if_eq F dX11_holds_28 rfl (fun hq4 => ?_) (fun hq4 => ?_)
    · rw [if_pos hq4] at h
      refine v_iconst F dX11_holds_35 ⟨by decide, by decide⟩ ?_
      refine v_fgt (L' := [mA 1545, mI a1, mI a2, mU, mU, mU, mU]) ⟨Or.inl rfl, Or.inl rfl, Or.inl rfl, Or.inr rfl, Or.inl rfl, Or.inl rfl, Or.inl rfl, trivial⟩ ?_
      exact fX11_holds_36_ok F hX hp h K
    · rw [if_neg hq4] at h
      refine v_iconst F dX11_holds_31 ⟨by decide, by decide⟩ ?_
      refine v_goto F dX11_holds_32 rfl ?_
      refine v_fgt (L' := [mA 1545, mI a1, mI a2, mU, mU, mU, mU]) ⟨Or.inl rfl, Or.inl rfl, Or.inl rfl, Or.inr rfl, Or.inl rfl, Or.inl rfl, Or.inl rfl, trivial⟩ ?_
      exact fX11_holds_36_ok F hX hp h K
  · rw [if_neg hq3] at h
    refine v_aload_n F dX11_holds_14 rfl rfl ?_
    refine gf_X11_319 F dX11_holds_15 hp (v := 1574) rfl ?_
    refine v_bipush F dX11_holds_18 rfl ⟨by decide, by decide⟩ ?_
    refine v_iload_n F dX11_holds_20 rfl rfl ?_
    refine v_iadd F dX11_holds_21 ?_
    obtain ⟨x31, ex31, h⟩ := lv_some h
    refine v_nI ex31 ?_
    obtain ⟨hi32, h⟩ := ck_some h
    refine v_iald F dX11_holds_22 (ar_X11_41 hX hp) hi32 ?_
    refine v_goto F dX11_holds_23 rfl ?_
    refine v_fgt (L' := [mA 1545, mI a1, mI a2, mU, mU, mU, mU]) ⟨Or.inl rfl, Or.inl rfl, Or.inl rfl, Or.inr rfl, Or.inl rfl, Or.inl rfl, Or.inl rfl, trivial⟩ ?_
    exact fX11_holds_39_ok F hX hp h K
theorem fX11_takesIn_22_ok {w : Wd} {l : Launch} {G : Cx} {d m dd : Dt} {a1 a2 s1 s2 s3 : Int} {d' : Dt} {x : Dt} (F : Fx w G cX11_takesIn RX11 3 none { frames := 0, cells := 0, slots := 0, locals := 0 }) (hX : WF dd m) (hp : PB m 1545 11) (h : fX11_takesIn_22 d a1 a2 s1 s2 s3 = some x) (K : (fun q => q = d') x) : V w l WF G (QM w G WF none d' m 0 0) d m 0 0 22 [mA 1545, mI a1, mU] [mI s3, mI s2, mI s1, mA 1579] := by
  unfold fX11_takesIn_22 at h
  refine v_iand F dX11_takesIn_22 ?_
  obtain ⟨hi3, h⟩ := ck_some h
  obtain ⟨d4, ed4, h⟩ := sd_some h
  refine v_zast F dX11_takesIn_23 (ar_X11_52 hX hp) hi3 ?_
  refine v_nD ed4 ?_
  refine v_aload_n F dX11_takesIn_24 rfl rfl ?_
  refine gf_X11_504 F dX11_takesIn_25 hp (v := 1580) rfl ?_
  refine v_iload_n F dX11_takesIn_28 rfl rfl ?_
  refine v_iconst F dX11_takesIn_29 ⟨by decide, by decide⟩ ?_
  obtain ⟨hi5, h⟩ := ck_some h
  obtain ⟨d6, ed6, h⟩ := sd_some h
  refine v_zast F dX11_takesIn_30 (ar_X11_53 hX hp) hi5 ?_
  refine v_nD ed6 ?_
  cases h
  cases (show _ = d' from K)
  exact v_vret F dX11_takesIn_31
theorem vm_X11_takesIn {w : Wd} {l : Launch} {d m : Dt} {a1 a2 : Int} {d' : Dt} (hp : PB m 1545 11) (h : fX11_takesIn d a1 a2 = some d') : VM w l WF yX11_takesIn cX11_takesIn 3 none 0 0 0 0 d m [mA 1545, mI a1, mI a2] none d' m := by
  obtain ⟨x, h, K⟩ : ∃ x, fX11_takesIn d a1 a2 = some x ∧ x = d' := ⟨_, h, rfl⟩
  refine VM.of (L := [mA 1545, mI a1, mI a2]) (by decide +kernel) rfl (Nat.le_of_ble_eq_true rfl) fun G F _ => v_fact fun _ hX _ _ => ?_
  unfold fX11_takesIn at h
  refine v_aload_n F dX11_takesIn_0 rfl rfl ?_
  refine gf_X11_501 F dX11_takesIn_1 hp (v := 1579) rfl ?_
  refine v_iload_n F dX11_takesIn_4 rfl rfl ?_
  refine v_dup2_IA F dX11_takesIn_5 ?_
  obtain ⟨hi1, h⟩ := ck_some h
  refine v_zald F dX11_takesIn_6 (ar_X11_52 hX hp) hi1 ?_
  refine v_iload_n F dX11_takesIn_7 rfl rfl ?_
  refine v_aload_n F dX11_takesIn_8 rfl rfl ?_
  refine gf_X11_504 F dX11_takesIn_9 hp (v := 1580) rfl ?_
  refine v_iload_n F dX11_takesIn_12 rfl rfl ?_
  refine v_zald F dX11_takesIn_13 (ar_X11_53 hX hp) hi1 ?_
  refine v_icmp_eq F dX11_takesIn_14 rfl (fun hq2 => ?_) (fun hq2 => ?_)
  · rw [if_pos hq2] at h
    refine v_iconst F dX11_takesIn_21 ⟨by decide, by decide⟩ ?_
    refine v_fgt (L' := [mA 1545, mI a1, mU]) ⟨Or.inl rfl, Or.inl rfl, Or.inr rfl, trivial⟩ ?_
    exact fX11_takesIn_22_ok F hX hp h K
  · rw [if_neg hq2] at h
    refine v_iconst F dX11_takesIn_17 ⟨by decide, by decide⟩ ?_
    refine v_goto F dX11_takesIn_18 rfl ?_
    refine v_fgt (L' := [mA 1545, mI a1, mU]) ⟨Or.inl rfl, Or.inl rfl, Or.inr rfl, trivial⟩ ?_
    exact fX11_takesIn_22_ok F hX hp h K
def fX11_lets_38P (w : Wd) (l : Launch) (G : Cx) (Q : State → Prop) (m : Dt) (a1 a2 v3 : Int) (s : Dt × Int × Int) : Prop := V w l WF G Q s.1 m 0 0 38 [mA 1545, mI a1, mI a2, mI v3, mI (s.2.1), mI (s.2.2), mU, mU] []
theorem fX11_lets_254_ok {w : Wd} {l : Launch} {G : Cx} {d m dd : Dt} {a1 a2 v3 v4 v5 s1 s2 : Int} {d' : Dt} {r : Int} {x : ((Dt × Int × Int) ⊕ (Dt × Int))} (F : Fx w G cX11_lets RX11 8 (some .boolean) { frames := 5, cells := 0, slots := 0, locals := 117 }) (hX : WF dd m) (hp : PB m 1545 11) (h : fX11_lets_254 d a1 a2 v3 v4 v5 s1 s2 = some x) (K : (Sum.elim (fX11_lets_38P w l G (QM w G WF (some (mI r)) d' m 0 0) m a1 a2 v3) (fun q => q = (d', r))) x) : V w l WF G (QM w G WF (some (mI r)) d' m 0 0) d m 0 0 254 [mA 1545, mI a1, mI a2, mI v3, mI v4, mI v5, mU, mU] [mI s2, mI s1, mA 1545] := by
  unfold fX11_lets_254 at h
  obtain ⟨d28, hc29, h⟩ := bd_some h
  refine v_callV0 (c := 11) F dX11_lets_254 cv_X11_521 rfl (PB.ob hp hX (Nat.le_of_ble_eq_true rfl)) (Nat.le_of_ble_eq_true rfl) rfl (vm_X11_takesIn hp hc29) rfl (rOk.of rfl) ?_
  refine v_goto F dX11_lets_257 rfl ?_
  obtain ⟨x30, ex30, h⟩ := lv_some h
  refine v_iincN F dX11_lets_292 (Nat.le_of_ble_eq_true rfl) rfl ex30 (L' := [mA 1545, mI a1, mI a2, mI v3, mI v4, mI x30, mU, mU]) rfl ?_
  refine v_goto F dX11_lets_295 rfl ?_
  cases h
  exact K
theorem fX11_lets_203_ok {w : Wd} {l : Launch} {G : Cx} {d m dd : Dt} {a1 a2 v3 v4 v5 s1 s2 : Int} {d' : Dt} {r : Int} {x : ((Dt × Int × Int) ⊕ (Dt × Int))} (F : Fx w G cX11_lets RX11 8 (some .boolean) { frames := 5, cells := 0, slots := 0, locals := 117 }) (hX : WF dd m) (hp : PB m 1545 11) (h : fX11_lets_203 d a1 a2 v3 v4 v5 s1 s2 = some x) (K : (Sum.elim (fX11_lets_38P w l G (QM w G WF (some (mI r)) d' m 0 0) m a1 a2 v3) (fun q => q = (d', r))) x) : V w l WF G (QM w G WF (some (mI r)) d' m 0 0) d m 0 0 203 [mA 1545, mI a1, mI a2, mI v3, mI v4, mI v5, mU, mU] [mI s2, mI s1, mA 1545] := by
  unfold fX11_lets_203 at h
  obtain ⟨d36, hc37, h⟩ := bd_some h
  refine v_callV0 (c := 11) F dX11_lets_203 cv_X11_513 rfl (PB.ob hp hX (Nat.le_of_ble_eq_true rfl)) (Nat.le_of_ble_eq_true rfl) rfl (vm_X11_openLevel hp hc37) rfl (rOk.of rfl) ?_
  obtain ⟨x38, ex38, h⟩ := lv_some h
  refine v_iincN F dX11_lets_206 (Nat.le_of_ble_eq_true rfl) rfl ex38 (L' := [mA 1545, mI a1, mI a2, mI v3, mI x38, mI v5, mU, mU]) rfl ?_
  refine v_goto F dX11_lets_209 rfl ?_
  obtain ⟨x39, ex39, h⟩ := lv_some h
  refine v_iincN F dX11_lets_292 (Nat.le_of_ble_eq_true rfl) rfl ex39 (L' := [mA 1545, mI a1, mI a2, mI v3, mI x38, mI x39, mU, mU]) rfl ?_
  refine v_goto F dX11_lets_295 rfl ?_
  cases h
  exact K
theorem fX11_lets_165_ok {w : Wd} {l : Launch} {G : Cx} {d m dd : Dt} {a1 a2 v3 v4 v5 s1 s2 : Int} {d' : Dt} {r : Int} {x : ((Dt × Int × Int) ⊕ (Dt × Int))} (F : Fx w G cX11_lets RX11 8 (some .boolean) { frames := 5, cells := 0, slots := 0, locals := 117 }) (hX : WF dd m) (hp : PB m 1545 11) (h : fX11_lets_165 d a1 a2 v3 v4 v5 s1 s2 = some x) (K : (Sum.elim (fX11_lets_38P w l G (QM w G WF (some (mI r)) d' m 0 0) m a1 a2 v3) (fun q => q = (d', r))) x) : V w l WF G (QM w G WF (some (mI r)) d' m 0 0) d m 0 0 165 [mA 1545, mI a1, mI a2, mI v3, mI v4, mI v5, mU, mU] [mI s2, mI s1, mA 1580] := by
  unfold fX11_lets_165 at h
  obtain ⟨hi42, h⟩ := ck_some h
  obtain ⟨d43, ed43, h⟩ := sd_some h
  refine v_zast F dX11_lets_165 (ar_X11_53 hX hp) hi42 ?_
  refine v_nD ed43 ?_
  refine v_goto F dX11_lets_166 rfl ?_
  obtain ⟨x44, ex44, h⟩ := lv_some h
  refine v_iincN F dX11_lets_292 (Nat.le_of_ble_eq_true rfl) rfl ex44 (L' := [mA 1545, mI a1, mI a2, mI v3, mI v4, mI x44, mU, mU]) rfl ?_
  refine v_goto F dX11_lets_295 rfl ?_
  cases h
  exact K
theorem fX11_lets_127_ok {w : Wd} {l : Launch} {G : Cx} {d m dd : Dt} {a1 a2 v3 v4 v5 v7 : Int} {d' : Dt} {r : Int} {x : ((Dt × Int × Int) ⊕ (Dt × Int))} (F : Fx w G cX11_lets RX11 8 (some .boolean) { frames := 5, cells := 0, slots := 0, locals := 117 }) (hX : WF dd m) (hp : PB m 1545 11) (h : fX11_lets_127 d a1 a2 v3 v4 v5 v7 = some x) (K : (Sum.elim (fX11_lets_38P w l G (QM w G WF (some (mI r)) d' m 0 0) m a1 a2 v3) (fun q => q = (d', r))) x) : V w l WF G (QM w G WF (some (mI r)) d' m 0 0) d m 0 0 127 [mA 1545, mI a1, mI a2, mI v3, mI v4, mI v5, mU, mI v7] [] := by
  unfold fX11_lets_127 at h
  refine v_aload_n F dX11_lets_127 rfl rfl ?_
  refine v_iload F dX11_lets_128 rfl ?_
  refine v_iload F dX11_lets_130 rfl ?_
  obtain ⟨d48, hc49, h⟩ := bd_some h
  refine v_callV0 (c := 11) F dX11_lets_132 cv_X11_521 rfl (PB.ob hp hX (Nat.le_of_ble_eq_true rfl)) (Nat.le_of_ble_eq_true rfl) rfl (vm_X11_takesIn hp hc49) rfl (rOk.of rfl) ?_
  refine v_goto F dX11_lets_135 rfl ?_
  obtain ⟨x50, ex50, h⟩ := lv_some h
  refine v_iincN F dX11_lets_292 (Nat.le_of_ble_eq_true rfl) rfl ex50 (L' := [mA 1545, mI a1, mI a2, mI v3, mI v4, mI x50, mU, mI v7]) rfl ?_
  refine v_goto F dX11_lets_295 rfl ?_
  cases h
  refine v_fgt (L' := [mA 1545, mI a1, mI a2, mI v3, mI v4, mI x50, mU, mU]) ⟨Or.inl rfl, Or.inl rfl, Or.inl rfl, Or.inl rfl, Or.inl rfl, Or.inl rfl, Or.inl rfl, Or.inr rfl, trivial⟩ ?_
  exact K
theorem fX11_lets_110_ok {w : Wd} {l : Launch} {G : Cx} {d m dd : Dt} {a1 a2 v3 v4 v5 v6 v7 s0 s1 : Int} {d' : Dt} {r : Int} {x : ((Dt × Int × Int) ⊕ (Dt × Int))} (F : Fx w G cX11_lets RX11 8 (some .boolean) { frames := 5, cells := 0, slots := 0, locals := 117 }) (hX : WF dd m) (hp : PB m 1545 11) (h : fX11_lets_110 d a1 a2 v3 v4 v5 v6 v7 s0 s1 = some x) (K : (Sum.elim (fX11_lets_38P w l G (QM w G WF (some (mI r)) d' m 0 0) m a1 a2 v3) (fun q => q = (d', r))) x) : V w l WF G (QM w G WF (some (mI r)) d' m 0 0) d m 0 0 110 [mA 1545, mI a1, mI a2, mI v3, mI v4, mI v5, mI v6, mI v7] [mI s1, mI s0] := by
  unfold fX11_lets_110 at h
  refine v_icmp_ne F dX11_lets_110 rfl (fun hq53 => ?_) (fun hq53 => ?_)
  · rw [if_neg hq53] at h
    refine v_fgt (L' := [mA 1545, mI a1, mI a2, mI v3, mI v4, mI v5, mU, mI v7]) ⟨Or.inl rfl, Or.inl rfl, Or.inl rfl, Or.inl rfl, Or.inl rfl, Or.inl rfl, Or.inr rfl, Or.inl rfl, trivial⟩ ?_
    exact fX11_lets_127_ok F hX hp h K
  · rw [if_pos hq53] at h
    refine v_aload_n F dX11_lets_113 rfl rfl ?_
    refine v_aload_n F dX11_lets_114 rfl rfl ?_
    refine gf_X11_322 F dX11_lets_115 hp (v := 1575) rfl ?_
    refine v_bipush F dX11_lets_118 rfl ⟨by decide, by decide⟩ ?_
    refine v_iload F dX11_lets_120 rfl ?_
    refine v_iadd F dX11_lets_122 ?_
    obtain ⟨x54, ex54, h⟩ := lv_some h
    refine v_nI ex54 ?_
    obtain ⟨hi55, h⟩ := ck_some h
    refine v_iald F dX11_lets_123 (ar_X11_42 hX hp) hi55 ?_
    obtain ⟨d56, ed56, h⟩ := sd_some h
    refine pf_X11_510 F dX11_lets_124 hp ?_
    refine v_nD ed56 ?_
    refine v_fgt (L' := [mA 1545, mI a1, mI a2, mI v3, mI v4, mI v5, mU, mI v7]) ⟨Or.inl rfl, Or.inl rfl, Or.inl rfl, Or.inl rfl, Or.inl rfl, Or.inl rfl, Or.inr rfl, Or.inl rfl, trivial⟩ ?_
    exact fX11_lets_127_ok F hX hp h K
theorem fX11_lets_38f_ok {w : Wd} {l : Launch} {G : Cx} {m dd : Dt} {a1 a2 v3 : Int} {d' : Dt} {r : Int} {s : Dt × Int × Int} {x : ((Dt × Int × Int) ⊕ (Dt × Int))} (F : Fx w G cX11_lets RX11 8 (some .boolean) { frames := 5, cells := 0, slots := 0, locals := 117 }) (hX : WF dd m) (hp : PB m 1545 11) (h : fX11_lets_38f a1 a2 v3 s = some x) (K : (Sum.elim (fX11_lets_38P w l G (QM w G WF (some (mI r)) d' m 0 0) m a1 a2 v3) (fun q => q = (d', r))) x) : V w l WF G (QM w G WF (some (mI r)) d' m 0 0) s.1 m 0 0 38 [mA 1545, mI a1, mI a2, mI v3, mI (s.2.1), mI (s.2.2), mU, mU] [] := by
  obtain ⟨d, v4, v5⟩ := s
  unfold fX11_lets_38f at h
  dsimp only at h
  refine v_iload F dX11_lets_38 rfl ?_
  refine v_aload_n F dX11_lets_40 rfl rfl ?_
  refine gf_X11_290 F dX11_lets_41 hp (v := 1570) rfl ?_
  refine v_iload_n F dX11_lets_44 rfl rfl ?_
  obtain ⟨hi7, h⟩ := ck_some h
  refine v_iald F dX11_lets_45 (ar_X11_37 hX hp) hi7 ?_
  refine v_icmp_ge F dX11_lets_46 rfl (fun hq8 => ?_) (fun hq8 => ?_)
  · rw [if_pos hq8] at h
    obtain ⟨z, hu, ez⟩ := up_some h
    clear h
    subst ez
    have h := hu
    clear hu
    refine v_aload_n F dX11_lets_298 rfl rfl ?_
    refine gf_X11_497 F dX11_lets_299 hp (v := 1578) rfl ?_
    refine v_iconst F dX11_lets_302 ⟨by decide, by decide⟩ ?_
    refine v_zald F dX11_lets_303 (ar_X11_51 hX hp) ⟨by decide, by decide⟩ ?_
    refine v_if_ne F dX11_lets_304 rfl (fun hq9 => ?_) (fun hq9 => ?_)
    · rw [if_neg hq9] at h
      refine v_iconst F dX11_lets_316 ⟨by decide, by decide⟩ ?_
      refine v_goto F dX11_lets_317 rfl ?_
      cases h
      cases (show _ = (d', r) from K)
      exact v_zret F (Or.inr rfl) dX11_lets_321
    · rw [if_pos hq9] at h
      refine v_aload_n F dX11_lets_307 rfl rfl ?_
      refine gf_X11_501 F dX11_lets_308 hp (v := 1579) rfl ?_
      refine v_iconst F dX11_lets_311 ⟨by decide, by decide⟩ ?_
      refine v_zald F dX11_lets_312 (ar_X11_52 hX hp) ⟨by decide, by decide⟩ ?_
      refine v_if_eq F dX11_lets_313 rfl (fun hq10 => ?_) (fun hq10 => ?_)
      · rw [if_pos hq10] at h
        refine v_iconst F dX11_lets_320 ⟨by decide, by decide⟩ ?_
        cases h
        cases (show _ = (d', r) from K)
        exact v_zret F (Or.inl rfl) dX11_lets_321
      · rw [if_neg hq10] at h
        refine v_iconst F dX11_lets_316 ⟨by decide, by decide⟩ ?_
        refine v_goto F dX11_lets_317 rfl ?_
        cases h
        cases (show _ = (d', r) from K)
        exact v_zret F (Or.inr rfl) dX11_lets_321
  · rw [if_neg hq8] at h
    refine v_aload_n F dX11_lets_49 rfl rfl ?_
    refine gf_X11_287 F dX11_lets_50 hp (v := 1569) rfl ?_
    refine v_sipush F dX11_lets_53 rfl ⟨by decide, by decide⟩ ?_
    refine v_iload_n F dX11_lets_56 rfl rfl ?_
    refine v_imul F dX11_lets_57 ?_
    refine v_iload F dX11_lets_58 rfl ?_
    refine v_iadd F dX11_lets_60 ?_
    obtain ⟨x11, ex11, h⟩ := lv_some h
    refine v_nI ex11 ?_
    obtain ⟨hi12, h⟩ := ck_some h
    refine v_iald F dX11_lets_61 (ar_X11_36 hX hp) hi12 ?_
    obtain ⟨x13, ex13, h⟩ := lv_some h
    refine v_nI ex13 ?_
    refine v_istore F dX11_lets_62 (Nat.le_of_ble_eq_true rfl) (L' := [mA 1545, mI a1, mI a2, mI v3, mI v4, mI v5, mI x13, mU]) rfl ?_
    refine v_iload F dX11_lets_64 rfl ?_
    refine v_if_lt F dX11_lets_66 rfl (fun hq14 => ?_) (fun hq14 => ?_)
    · rw [if_pos hq14] at h
      refine v_iload F dX11_lets_138 rfl ?_
      refine v_iconst F dX11_lets_140 ⟨by decide, by decide⟩ ?_
      refine v_icmp_ne F dX11_lets_141 rfl (fun hq15 => ?_) (fun hq15 => ?_)
      · rw [if_neg hq15] at h
        refine v_iload F dX11_lets_169 rfl ?_
        refine v_bipush F dX11_lets_171 rfl ⟨by decide, by decide⟩ ?_
        refine v_icmp_ne F dX11_lets_173 rfl (fun hq16 => ?_) (fun hq16 => ?_)
        · rw [if_neg hq16] at h
          refine v_iload F dX11_lets_212 rfl ?_
          refine v_bipush F dX11_lets_214 rfl ⟨by decide, by decide⟩ ?_
          refine v_icmp_ne F dX11_lets_216 rfl (fun hq17 => ?_) (fun hq17 => ?_)
          · rw [if_neg hq17] at h
            refine v_iload F dX11_lets_260 rfl ?_
            refine v_bipush F dX11_lets_262 rfl ⟨by decide, by decide⟩ ?_
            refine v_icmp_ne F dX11_lets_264 rfl (fun hq18 => ?_) (fun hq18 => ?_)
            · rw [if_neg hq18] at h
              obtain ⟨x19, ex19, h⟩ := lv_some h
              refine v_iincN F dX11_lets_292 (Nat.le_of_ble_eq_true rfl) rfl ex19 (L' := [mA 1545, mI a1, mI a2, mI v3, mI v4, mI x19, mI x13, mU]) rfl ?_
              refine v_goto F dX11_lets_295 rfl ?_
              cases h
              refine v_fgt (L' := [mA 1545, mI a1, mI a2, mI v3, mI v4, mI x19, mU, mU]) ⟨Or.inl rfl, Or.inl rfl, Or.inl rfl, Or.inl rfl, Or.inl rfl, Or.inl rfl, Or.inr rfl, Or.inl rfl, trivial⟩ ?_
              exact K
            · rw [if_pos hq18] at h
              refine v_aload_n F dX11_lets_267 rfl rfl ?_
              refine gf_X11_497 F dX11_lets_268 hp (v := 1578) rfl ?_
              refine v_iload F dX11_lets_271 rfl ?_
              refine v_dup2_IA F dX11_lets_273 ?_
              obtain ⟨hi20, h⟩ := ck_some h
              refine v_zald F dX11_lets_274 (ar_X11_51 hX hp) hi20 ?_
              refine v_aload_n F dX11_lets_275 rfl rfl ?_
              refine gf_X11_501 F dX11_lets_276 hp (v := 1579) rfl ?_
              refine v_iload F dX11_lets_279 rfl ?_
              refine v_zald F dX11_lets_281 (ar_X11_52 hX hp) hi20 ?_
              refine v_ior F dX11_lets_282 ?_
              obtain ⟨d21, ed21, h⟩ := sd_some h
              refine v_zast F dX11_lets_283 (ar_X11_51 hX hp) hi20 ?_
              refine v_nD ed21 ?_
              refine v_aload_n F dX11_lets_284 rfl rfl ?_
              refine gf_X11_501 F dX11_lets_285 hp (v := 1579) rfl ?_
              refine v_iload F dX11_lets_288 rfl ?_
              refine v_iconst F dX11_lets_290 ⟨by decide, by decide⟩ ?_
              obtain ⟨d22, ed22, h⟩ := sd_some h
              refine v_zast F dX11_lets_291 (ar_X11_52 hX hp) hi20 ?_
              refine v_nD ed22 ?_
              obtain ⟨x23, ex23, h⟩ := lv_some h
              refine v_iincN F dX11_lets_292 (Nat.le_of_ble_eq_true rfl) rfl ex23 (L' := [mA 1545, mI a1, mI a2, mI v3, mI v4, mI x23, mI x13, mU]) rfl ?_
              refine v_goto F dX11_lets_295 rfl ?_
              cases h
              refine v_fgt (L' := [mA 1545, mI a1, mI a2, mI v3, mI v4, mI x23, mU, mU]) ⟨Or.inl rfl, Or.inl rfl, Or.inl rfl, Or.inl rfl, Or.inl rfl, Or.inl rfl, Or.inr rfl, Or.inl rfl, trivial⟩ ?_
              exact K
          · rw [if_pos hq17] at h
            obtain ⟨x24, ex24, h⟩ := lv_some h
            refine v_iincN F dX11_lets_219 (Nat.le_of_ble_eq_true rfl) rfl ex24 (L' := [mA 1545, mI a1, mI a2, mI v3, mI x24, mI v5, mI x13, mU]) rfl ?_
            refine v_aload_n F dX11_lets_222 rfl rfl ?_
            refine v_iload F dX11_lets_223 rfl ?_
            refine v_aload_n F dX11_lets_225 rfl rfl ?_
            refine gf_X11_497 F dX11_lets_226 hp (v := 1578) rfl ?_
            refine v_iload F dX11_lets_229 rfl ?_
            refine v_iconst F dX11_lets_231 ⟨by decide, by decide⟩ ?_
            refine v_iadd F dX11_lets_232 ?_
            obtain ⟨x25, ex25, h⟩ := lv_some h
            refine v_nI ex25 ?_
            obtain ⟨hi26, h⟩ := ck_some h
            refine v_zald F dX11_lets_233 (ar_X11_51 hX hp) hi26 ?_
            refine v_if_ne F dX11_lets_234 rfl (fun hq27 => ?_) (fun hq27 => ?_)
            · rw [if_neg hq27] at h
              refine v_iconst F dX11_lets_249 ⟨by decide, by decide⟩ ?_
              refine v_goto F dX11_lets_250 rfl ?_
              refine v_fgt (L' := [mA 1545, mI a1, mI a2, mI v3, mI x24, mI v5, mU, mU]) ⟨Or.inl rfl, Or.inl rfl, Or.inl rfl, Or.inl rfl, Or.inl rfl, Or.inl rfl, Or.inr rfl, Or.inl rfl, trivial⟩ ?_
              exact fX11_lets_254_ok F hX hp h K
            · rw [if_pos hq27] at h
              refine v_aload_n F dX11_lets_237 rfl rfl ?_
              refine gf_X11_501 F dX11_lets_238 hp (v := 1579) rfl ?_
              refine v_iload F dX11_lets_241 rfl ?_
              refine v_iconst F dX11_lets_243 ⟨by decide, by decide⟩ ?_
              refine v_iadd F dX11_lets_244 ?_
              obtain ⟨x31, ex31, h⟩ := lv_some h
              refine v_nI ex31 ?_
              obtain ⟨hi32, h⟩ := ck_some h
              refine v_zald F dX11_lets_245 (ar_X11_52 hX hp) hi32 ?_
              refine v_if_eq F dX11_lets_246 rfl (fun hq33 => ?_) (fun hq33 => ?_)
              · rw [if_pos hq33] at h
                refine v_iconst F dX11_lets_253 ⟨by decide, by decide⟩ ?_
                refine v_fgt (L' := [mA 1545, mI a1, mI a2, mI v3, mI x24, mI v5, mU, mU]) ⟨Or.inl rfl, Or.inl rfl, Or.inl rfl, Or.inl rfl, Or.inl rfl, Or.inl rfl, Or.inr rfl, Or.inl rfl, trivial⟩ ?_
                exact fX11_lets_254_ok F hX hp h K
              · rw [if_neg hq33] at h
                refine v_iconst F dX11_lets_249 ⟨by decide, by decide⟩ ?_
                refine v_goto F dX11_lets_250 rfl ?_
                refine v_fgt (L' := [mA 1545, mI a1, mI a2, mI v3, mI x24, mI v5, mU, mU]) ⟨Or.inl rfl, Or.inl rfl, Or.inl rfl, Or.inl rfl, Or.inl rfl, Or.inl rfl, Or.inr rfl, Or.inl rfl, trivial⟩ ?_
                exact fX11_lets_254_ok F hX hp h K
        · rw [if_pos hq16] at h
          refine v_aload_n F dX11_lets_176 rfl rfl ?_
          refine v_iload F dX11_lets_177 rfl ?_
          refine v_iconst F dX11_lets_179 ⟨by decide, by decide⟩ ?_
          refine v_iadd F dX11_lets_180 ?_
          refine v_aload_n F dX11_lets_181 rfl rfl ?_
          refine gf_X11_507 F dX11_lets_182 hp (v := 1581) rfl ?_
          refine v_iload F dX11_lets_185 rfl ?_
          obtain ⟨hi34, h⟩ := ck_some h
          refine v_zald F dX11_lets_187 (ar_X11_54 hX hp) hi34 ?_
          refine v_aload_n F dX11_lets_188 rfl rfl ?_
          refine gf_X11_504 F dX11_lets_189 hp (v := 1580) rfl ?_
          refine v_iload F dX11_lets_192 rfl ?_
          refine v_zald F dX11_lets_194 (ar_X11_53 hX hp) hi34 ?_
          refine v_icmp_eq F dX11_lets_195 rfl (fun hq35 => ?_) (fun hq35 => ?_)
          · rw [if_pos hq35] at h
            refine v_iconst F dX11_lets_202 ⟨by decide, by decide⟩ ?_
            refine v_fgt (L' := [mA 1545, mI a1, mI a2, mI v3, mI v4, mI v5, mU, mU]) ⟨Or.inl rfl, Or.inl rfl, Or.inl rfl, Or.inl rfl, Or.inl rfl, Or.inl rfl, Or.inr rfl, Or.inl rfl, trivial⟩ ?_
            exact fX11_lets_203_ok F hX hp h K
          · rw [if_neg hq35] at h
            refine v_iconst F dX11_lets_198 ⟨by decide, by decide⟩ ?_
            refine v_goto F dX11_lets_199 rfl ?_
            refine v_fgt (L' := [mA 1545, mI a1, mI a2, mI v3, mI v4, mI v5, mU, mU]) ⟨Or.inl rfl, Or.inl rfl, Or.inl rfl, Or.inl rfl, Or.inl rfl, Or.inl rfl, Or.inr rfl, Or.inl rfl, trivial⟩ ?_
            exact fX11_lets_203_ok F hX hp h K
      · rw [if_pos hq15] at h
        refine v_aload_n F dX11_lets_144 rfl rfl ?_
        refine gf_X11_504 F dX11_lets_145 hp (v := 1580) rfl ?_
        refine v_iload F dX11_lets_148 rfl ?_
        refine v_aload_n F dX11_lets_150 rfl rfl ?_
        refine gf_X11_504 F dX11_lets_151 hp (v := 1580) rfl ?_
        refine v_iload F dX11_lets_154 rfl ?_
        obtain ⟨hi40, h⟩ := ck_some h
        refine v_zald F dX11_lets_156 (ar_X11_53 hX hp) hi40 ?_
        refine v_if_ne F dX11_lets_157 rfl (fun hq41 => ?_) (fun hq41 => ?_)
        · rw [if_neg hq41] at h
          refine v_iconst F dX11_lets_164 ⟨by decide, by decide⟩ ?_
          refine v_fgt (L' := [mA 1545, mI a1, mI a2, mI v3, mI v4, mI v5, mU, mU]) ⟨Or.inl rfl, Or.inl rfl, Or.inl rfl, Or.inl rfl, Or.inl rfl, Or.inl rfl, Or.inr rfl, Or.inl rfl, trivial⟩ ?_
          exact fX11_lets_165_ok F hX hp h K
        · rw [if_pos hq41] at h
          refine v_iconst F dX11_lets_160 ⟨by decide, by decide⟩ ?_
          refine v_goto F dX11_lets_161 rfl ?_
          refine v_fgt (L' := [mA 1545, mI a1, mI a2, mI v3, mI v4, mI v5, mU, mU]) ⟨Or.inl rfl, Or.inl rfl, Or.inl rfl, Or.inl rfl, Or.inl rfl, Or.inl rfl, Or.inr rfl, Or.inl rfl, trivial⟩ ?_
          exact fX11_lets_165_ok F hX hp h K
    · rw [if_neg hq14] at h
      refine v_aload_n F dX11_lets_69 rfl rfl ?_
      refine v_iload F dX11_lets_70 rfl ?_
      refine v_iload_n F dX11_lets_72 rfl rfl ?_
      refine v_iload_n F dX11_lets_73 rfl rfl ?_
      obtain ⟨x45, hc46, h⟩ := b1_some h
      refine v_callVv (c := 11) F dX11_lets_74 cv_X11_517 rfl (PB.ob hp hX (Nat.le_of_ble_eq_true rfl)) (Nat.le_of_ble_eq_true rfl) rfl (vm_X11_holds hp hc46) rfl (rOk.of rfl) ?_
      refine v_istore F dX11_lets_77 (Nat.le_of_ble_eq_true rfl) (L' := [mA 1545, mI a1, mI a2, mI v3, mI v4, mI v5, mI x13, mI x45]) rfl ?_
      refine v_aload_n F dX11_lets_79 rfl rfl ?_
      refine gf_X11_510 F dX11_lets_80 hp ?_
      refine v_if_ge F dX11_lets_83 rfl (fun hq47 => ?_) (fun hq47 => ?_)
      · rw [if_pos hq47] at h
        refine v_fgt (L' := [mA 1545, mI a1, mI a2, mI v3, mI v4, mI v5, mU, mI x45]) ⟨Or.inl rfl, Or.inl rfl, Or.inl rfl, Or.inl rfl, Or.inl rfl, Or.inl rfl, Or.inr rfl, Or.inl rfl, trivial⟩ ?_
        exact fX11_lets_127_ok F hX hp h K
      · rw [if_neg hq47] at h
        refine v_iload F dX11_lets_86 rfl ?_
        refine v_aload_n F dX11_lets_88 rfl rfl ?_
        refine gf_X11_507 F dX11_lets_89 hp (v := 1581) rfl ?_
        refine v_iload F dX11_lets_92 rfl ?_
        obtain ⟨hi51, h⟩ := ck_some h
        refine v_zald F dX11_lets_94 (ar_X11_54 hX hp) hi51 ?_
        refine v_aload_n F dX11_lets_95 rfl rfl ?_
        refine gf_X11_504 F dX11_lets_96 hp (v := 1580) rfl ?_
        refine v_iload F dX11_lets_99 rfl ?_
        refine v_zald F dX11_lets_101 (ar_X11_53 hX hp) hi51 ?_
        refine v_icmp_eq F dX11_lets_102 rfl (fun hq52 => ?_) (fun hq52 => ?_)
        · rw [if_pos hq52] at h
          refine v_iconst F dX11_lets_109 ⟨by decide, by decide⟩ ?_
          exact fX11_lets_110_ok F hX hp h K
        · rw [if_neg hq52] at h
          refine v_iconst F dX11_lets_105 ⟨by decide, by decide⟩ ?_
          refine v_goto F dX11_lets_106 rfl ?_
          exact fX11_lets_110_ok F hX hp h K
theorem fX11_lets_38_ok {w : Wd} {l : Launch} {G : Cx} {d m dd : Dt} {a1 a2 v3 v4 v5 : Int} {d' : Dt} {r : Int} {x : (Dt × Int)} (F : Fx w G cX11_lets RX11 8 (some .boolean) { frames := 5, cells := 0, slots := 0, locals := 117 }) (hX : WF dd m) (hp : PB m 1545 11) (h : fX11_lets_38 d a1 a2 v3 v4 v5 = some x) (K : (fun q => q = (d', r)) x) : V w l WF G (QM w G WF (some (mI r)) d' m 0 0) d m 0 0 38 [mA 1545, mI a1, mI a2, mI v3, mI v4, mI v5, mU, mU] [] := by
  unfold fX11_lets_38 at h
  exact loop_ok (P := fX11_lets_38P w l G (QM w G WF (some (mI r)) d' m 0 0) m a1 a2 v3) (fun s x hx h1 h2 => fX11_lets_38f_ok F hX hp hx (by
    cases x with
    | inl s' => exact h1 s' rfl
    | inr z => cases h2 z rfl; exact K)) h
theorem fX11_lets_9_ok {w : Wd} {l : Launch} {G : Cx} {d m dd : Dt} {a1 a2 s0 : Int} {d' : Dt} {r : Int} {x : (Dt × Int)} (F : Fx w G cX11_lets RX11 8 (some .boolean) { frames := 5, cells := 0, slots := 0, locals := 117 }) (hX : WF dd m) (hp : PB m 1545 11) (h : fX11_lets_9 d a1 a2 s0 = some x) (K : (fun q => q = (d', r)) x) : V w l WF G (QM w G WF (some (mI r)) d' m 0 0) d m 0 0 9 [mA 1545, mI a1, mI a2, mU, mU, mU, mU, mU] [mI s0] := by
  unfold fX11_lets_9 at h
  refine v_istore_n F dX11_lets_9 rfl (Nat.le_of_ble_eq_true rfl) (L' := [mA 1545, mI a1, mI a2, mI s0, mU, mU, mU, mU]) rfl ?_
  refine v_aload_n F dX11_lets_10 rfl rfl ?_
  refine v_iconst F dX11_lets_11 ⟨by decide, by decide⟩ ?_
  obtain ⟨d2, ed2, h⟩ := sd_some h
  refine pf_X11_510 F dX11_lets_12 hp ?_
  refine v_nD ed2 ?_
  refine v_aload_n F dX11_lets_15 rfl rfl ?_
  refine gf_X11_290 F dX11_lets_16 hp (v := 1570) rfl ?_
  refine v_iload_n F dX11_lets_19 rfl rfl ?_
  obtain ⟨hi3, h⟩ := ck_some h
  refine v_iald F dX11_lets_20 (ar_X11_37 hX hp) hi3 ?_
  refine v_if_ne F dX11_lets_21 rfl (fun hq4 => ?_) (fun hq4 => ?_)
  · rw [if_neg hq4] at h
    refine v_iconst F dX11_lets_26 ⟨by decide, by decide⟩ ?_
    refine v_istore F dX11_lets_27 (Nat.le_of_ble_eq_true rfl) (L' := [mA 1545, mI a1, mI a2, mI s0, mI 0, mU, mU, mU]) rfl ?_
    refine v_aload_n F dX11_lets_29 rfl rfl ?_
    refine v_iconst F dX11_lets_30 ⟨by decide, by decide⟩ ?_
    refine v_iconst F dX11_lets_31 ⟨by decide, by decide⟩ ?_
    obtain ⟨d5, hc6, h⟩ := bd_some h
    refine v_callV0 (c := 11) F dX11_lets_32 cv_X11_513 rfl (PB.ob hp hX (Nat.le_of_ble_eq_true rfl)) (Nat.le_of_ble_eq_true rfl) rfl (vm_X11_openLevel hp hc6) rfl (rOk.of rfl) ?_
    refine v_iconst F dX11_lets_35 ⟨by decide, by decide⟩ ?_
    refine v_istore F dX11_lets_36 (Nat.le_of_ble_eq_true rfl) (L' := [mA 1545, mI a1, mI a2, mI s0, mI 0, mI 0, mU, mU]) rfl ?_
    exact fX11_lets_38_ok F hX hp h K
  · rw [if_pos hq4] at h
    refine v_iconst F dX11_lets_24 ⟨by decide, by decide⟩ ?_
    cases h
    cases (show _ = (d', r) from K)
    exact v_zret F (Or.inr rfl) dX11_lets_25
theorem vm_X11_lets {w : Wd} {l : Launch} {d m : Dt} {a1 a2 : Int} {d' : Dt} {r : Int} (hp : PB m 1545 11) (h : fX11_lets d a1 a2 = some (d', r)) : VM w l WF yX11_lets cX11_lets 8 (some .boolean) 5 117 0 0 d m [mA 1545, mI a1, mI a2] (some (mI r)) d' m := by
  obtain ⟨x, h, K⟩ : ∃ x, fX11_lets d a1 a2 = some x ∧ x = (d', r) := ⟨_, h, rfl⟩
  refine VM.of (L := [mA 1545, mI a1, mI a2, mU, mU, mU, mU, mU]) (by decide +kernel) rfl (Nat.le_of_ble_eq_true rfl) fun G F _ => v_fact fun _ hX _ _ => ?_
  unfold fX11_lets at h
  refine v_iload_n F dX11_lets_0 rfl rfl ?_
  refine v_if_eq F dX11_lets_1 rfl (fun hq1 => ?_) (fun hq1 => ?_)
  · rw [if_pos hq1] at h
    refine v_iconst F dX11_lets_8 ⟨by decide, by decide⟩ ?_
    exact fX11_lets_9_ok F hX hp h K
  · rw [if_neg hq1] at h
    refine v_iconst F dX11_lets_4 ⟨by decide, by decide⟩ ?_
    refine v_goto F dX11_lets_5 rfl ?_
    exact fX11_lets_9_ok F hX hp h K
theorem fX11_may_61_ok {w : Wd} {l : Launch} {G : Cx} {d m dd : Dt} {a1 a2 v3 s1 : Int} {d' : Dt} {r : Int} {x : (Dt × Int)} (F : Fx w G cX11_may RX11 4 (some .int) { frames := 6, cells := 0, slots := 0, locals := 144 }) (hX : WF dd m) (hp : PB m 1545 11) (h : fX11_may_61 d a1 a2 v3 s1 = some x) (K : (fun q => q = (d', r)) x) : V w l WF G (QM w G WF (some (mI r)) d' m 0 0) d m 0 0 61 [mU, mU, mU, mI v3] [mI s1, mA 1545] := by
  unfold fX11_may_61 at h
  obtain ⟨d9, ed9, h⟩ := sd_some h
  refine pf_X11_472 F dX11_may_61 hp ?_
  refine v_nD ed9 ?_
  refine v_iload_n F dX11_may_64 rfl rfl ?_
  refine v_if_eq F dX11_may_65 rfl (fun hq10 => ?_) (fun hq10 => ?_)
  · rw [if_pos hq10] at h
    refine v_iconst F dX11_may_72 ⟨by decide, by decide⟩ ?_
    cases h
    cases (show _ = (d', r) from K)
    exact v_iret F dX11_may_73
  · rw [if_neg hq10] at h
    refine v_iconst F dX11_may_68 ⟨by decide, by decide⟩ ?_
    refine v_goto F dX11_may_69 rfl ?_
    cases h
    cases (show _ = (d', r) from K)
    exact v_iret F dX11_may_73
theorem fX11_may_41_ok {w : Wd} {l : Launch} {G : Cx} {d m dd : Dt} {a1 a2 s1 s2 : Int} {d' : Dt} {r : Int} {x : (Dt × Int)} (F : Fx w G cX11_may RX11 4 (some .int) { frames := 6, cells := 0, slots := 0, locals := 144 }) (hX : WF dd m) (hp : PB m 1545 11) (h : fX11_may_41 d a1 a2 s1 s2 = some x) (K : (fun q => q = (d', r)) x) : V w l WF G (QM w G WF (some (mI r)) d' m 0 0) d m 0 0 41 [mA 1545, mU, mU, mU] [mI s2, mI s1, mA 1545] := by
  unfold fX11_may_41 at h
  obtain ⟨d5, x7, hc6, h⟩ := b2_some h
  refine v_callVv (c := 11) F dX11_may_41 cv_X11_524 rfl (PB.ob hp hX (Nat.le_of_ble_eq_true rfl)) (Nat.le_of_ble_eq_true rfl) rfl (vm_X11_lets hp hc6) rfl (rOk.of rfl) ?_
  refine v_istore_n F dX11_may_44 rfl (Nat.le_of_ble_eq_true rfl) (L' := [mA 1545, mU, mU, mI x7]) rfl ?_
  refine v_aload_n F dX11_may_45 rfl rfl ?_
  refine v_iload_n F dX11_may_46 rfl rfl ?_
  refine v_if_eq F dX11_may_47 rfl (fun hq8 => ?_) (fun hq8 => ?_)
  · rw [if_pos hq8] at h
    refine v_aload_n F dX11_may_57 rfl rfl ?_
    refine gf_X11_510 F dX11_may_58 hp ?_
    refine v_fgt (L' := [mU, mU, mU, mI x7]) ⟨Or.inr rfl, Or.inl rfl, Or.inl rfl, Or.inl rfl, trivial⟩ ?_
    exact fX11_may_61_ok F hX hp h K
  · rw [if_neg hq8] at h
    refine v_aload_n F dX11_may_50 rfl rfl ?_
    refine gf_X11_472 F dX11_may_51 hp ?_
    refine v_goto F dX11_may_54 rfl ?_
    refine v_fgt (L' := [mU, mU, mU, mI x7]) ⟨Or.inr rfl, Or.inl rfl, Or.inl rfl, Or.inl rfl, trivial⟩ ?_
    exact fX11_may_61_ok F hX hp h K
theorem vm_X11_may {w : Wd} {l : Launch} {d m : Dt} {a1 a2 : Int} {d' : Dt} {r : Int} (hp : PB m 1545 11) (h : fX11_may d a1 a2 = some (d', r)) : VM w l WF yX11_may cX11_may 4 (some .int) 6 144 0 0 d m [mA 1545, mI a1, mI a2] (some (mI r)) d' m := by
  obtain ⟨x, h, K⟩ : ∃ x, fX11_may d a1 a2 = some x ∧ x = (d', r) := ⟨_, h, rfl⟩
  refine VM.of (L := [mA 1545, mI a1, mI a2, mU]) (by decide +kernel) rfl (Nat.le_of_ble_eq_true rfl) fun G F _ => v_fact fun _ hX _ _ => ?_
  unfold fX11_may at h
  refine v_aload_n F dX11_may_0 rfl rfl ?_
  refine gf_X11_141 F dX11_may_1 hp ?_
  refine v_if_eq F dX11_may_4 rfl (fun hq1 => ?_) (fun hq1 => ?_)
  · rw [if_pos hq1] at h
    refine v_iconst F dX11_may_15 ⟨by decide, by decide⟩ ?_
    cases h
    cases (show _ = (d', r) from K)
    exact v_iret F dX11_may_16
  · rw [if_neg hq1] at h
    refine v_aload_n F dX11_may_7 rfl rfl ?_
    refine v_iload_n F dX11_may_8 rfl rfl ?_
    refine v_callVv (c := 11) F dX11_may_9 cv_X11_110 rfl (PB.ob hp hX (Nat.le_of_ble_eq_true rfl)) (Nat.le_of_ble_eq_true rfl) rfl (vm_X11_isPerson hp) rfl (rOk.of rfl) ?_
    refine v_if_ne F dX11_may_12 rfl (fun hq2 => ?_) (fun hq2 => ?_)
    · rw [if_neg hq2] at h
      refine v_iload_n F dX11_may_17 rfl rfl ?_
      refine v_i2l F dX11_may_18 ?_
      refine v_lconst0 F dX11_may_19 ?_
      refine v_lconst1 F dX11_may_20 ?_
      refine v_callSv F dX11_may_21 cs_X11_13 rfl (vm_X11_in) rfl (rOk.of rfl) ?_
      refine v_if_ne F dX11_may_24 rfl (fun hq3 => ?_) (fun hq3 => ?_)
      · rw [if_neg hq3] at h
        refine v_aload_n F dX11_may_30 rfl rfl ?_
        refine v_iload_n F dX11_may_31 rfl rfl ?_
        refine v_iload_n F dX11_may_32 rfl rfl ?_
        refine v_if_ne F dX11_may_33 rfl (fun hq4 => ?_) (fun hq4 => ?_)
        · rw [if_neg hq4] at h
          refine v_iconst F dX11_may_40 ⟨by decide, by decide⟩ ?_
          refine v_fgt (L' := [mA 1545, mU, mU, mU]) ⟨Or.inl rfl, Or.inr rfl, Or.inr rfl, Or.inl rfl, trivial⟩ ?_
          exact fX11_may_41_ok F hX hp h K
        · rw [if_pos hq4] at h
          refine v_iconst F dX11_may_36 ⟨by decide, by decide⟩ ?_
          refine v_goto F dX11_may_37 rfl ?_
          refine v_fgt (L' := [mA 1545, mU, mU, mU]) ⟨Or.inl rfl, Or.inr rfl, Or.inr rfl, Or.inl rfl, trivial⟩ ?_
          exact fX11_may_41_ok F hX hp h K
      · rw [if_pos hq3] at h
        refine v_bipush F dX11_may_27 rfl ⟨by decide, by decide⟩ ?_
        cases h
        cases (show _ = (d', r) from K)
        exact v_iret F dX11_may_29
    · rw [if_pos hq2] at h
      refine v_iconst F dX11_may_15 ⟨by decide, by decide⟩ ?_
      cases h
      cases (show _ = (d', r) from K)
      exact v_iret F dX11_may_16
theorem vm_X0_place {w : Wd} {l : Launch} {d m : Dt} (hp : PB m 1 0) : VM w l WF yX0_place cX0_place 1 (some .int) 0 0 0 0 d m [mA 1] (some (mI (fX0_place d))) d m := by
  obtain ⟨r, hr⟩ : ∃ r, fX0_place d = r := ⟨_, rfl⟩
  rw [hr]
  obtain ⟨x, h, K⟩ : ∃ x, fX0_place d = x ∧ x = r := ⟨_, hr, rfl⟩
  refine VM.of (L := [mA 1]) (by decide +kernel) rfl (Nat.le_of_ble_eq_true rfl) fun G F _ => v_fact fun _ hX _ _ => ?_
  unfold fX0_place at h
  refine v_aload_n F dX0_place_0 rfl rfl ?_
  refine gf_X0_49 F dX0_place_1 hp ?_
  subst h
  cases (show _ = r from K)
  exact v_iret F dX0_place_4
theorem vm_X11_place {w : Wd} {l : Launch} {d m : Dt} (hp : PB m 1545 11) : VM w l WF yX11_place cX11_place 1 (some .int) 0 0 0 0 d m [mA 1545] (some (mI (fX11_place d))) d m := by
  obtain ⟨r, hr⟩ : ∃ r, fX11_place d = r := ⟨_, rfl⟩
  rw [hr]
  obtain ⟨x, h, K⟩ : ∃ x, fX11_place d = x ∧ x = r := ⟨_, hr, rfl⟩
  refine VM.of (L := [mA 1545]) (by decide +kernel) rfl (Nat.le_of_ble_eq_true rfl) fun G F _ => v_fact fun _ hX _ _ => ?_
  unfold fX11_place at h
  refine v_aload_n F dX11_place_0 rfl rfl ?_
  refine gf_X11_472 F dX11_place_1 hp ?_
  subst h
  cases (show _ = r from K)
  exact v_iret F dX11_place_4
theorem vm_X13_isAlive {w : Wd} {l : Launch} {d m : Dt} {o a1 : Int} (hp : PB m o 12) : VM w l WF yX13_isAlive cX13_isAlive 2 (some .boolean) 0 0 0 0 d m [mA o, mI a1] (some (mI (fX13_isAlive d o a1))) d m := by
  obtain ⟨r, hr⟩ : ∃ r, fX13_isAlive d o a1 = r := ⟨_, rfl⟩
  rw [hr]
  obtain ⟨x, h, K⟩ : ∃ x, fX13_isAlive d o a1 = x ∧ x = r := ⟨_, hr, rfl⟩
  refine VM.of (L := [mA o, mI a1]) (by decide +kernel) rfl (Nat.le_of_ble_eq_true rfl) fun G F _ => v_fact fun _ hX _ _ => ?_
  unfold fX13_isAlive at h
  refine v_aload_n F dX13_isAlive_0 rfl rfl ?_
  refine gf_X13_50 F dX13_isAlive_1 hp ?_
  refine v_iload_n F dX13_isAlive_4 rfl rfl ?_
  refine v_icmp_gt F dX13_isAlive_5 rfl (fun hq1 => ?_) (fun hq1 => ?_)
  · rw [if_pos hq1] at h
    refine v_iconst F dX13_isAlive_20 ⟨by decide, by decide⟩ ?_
    subst h
    cases (show _ = r from K)
    exact v_zret F (Or.inl rfl) dX13_isAlive_21
  · rw [if_neg hq1] at h
    refine v_aload_n F dX13_isAlive_8 rfl rfl ?_
    refine gf_X13_12 F dX13_isAlive_9 hp ?_
    refine v_iload_n F dX13_isAlive_12 rfl rfl ?_
    refine v_icmp_le F dX13_isAlive_13 rfl (fun hq2 => ?_) (fun hq2 => ?_)
    · rw [if_pos hq2] at h
      refine v_iconst F dX13_isAlive_20 ⟨by decide, by decide⟩ ?_
      subst h
      cases (show _ = r from K)
      exact v_zret F (Or.inl rfl) dX13_isAlive_21
    · rw [if_neg hq2] at h
      refine v_iconst F dX13_isAlive_16 ⟨by decide, by decide⟩ ?_
      refine v_goto F dX13_isAlive_17 rfl ?_
      subst h
      cases (show _ = r from K)
      exact v_zret F (Or.inr rfl) dX13_isAlive_21
theorem fX13_isAlive_z {d : Dt} {o a1 : Int} : fX13_isAlive d o a1 = 0 ∨ fX13_isAlive d o a1 = 1 := by
  unfold fX13_isAlive
  repeat' (first | exact Or.inl rfl | exact Or.inr rfl | split | assumption)
def fX9_hasPerson_2P (w : Wd) (l : Launch) (G : Cx) (Q : State → Prop) (m : Dt) (d : Dt) (o a1 : Int) (s : Int) : Prop := V w l WF G Q d m 0 0 2 [mA o, mI a1, mI (s)] []
theorem fX9_hasPerson_2f_ok {w : Wd} {l : Launch} {G : Cx} {d m dd : Dt} {o a1 : Int} {r : Int} {s : Int} {x : ((Int) ⊕ Int)} (F : Fx w G cX9_hasPerson RX9 3 (some .boolean) { frames := 0, cells := 0, slots := 0, locals := 0 }) (hX : WF dd m) (hp : PB m o 9) (h : fX9_hasPerson_2f d o a1 s = some x) (K : (Sum.elim (fX9_hasPerson_2P w l G (QM w G WF (some (mI r)) d m 0 0) m d o a1) (fun q => q = r)) x) : V w l WF G (QM w G WF (some (mI r)) d m 0 0) d m 0 0 2 [mA o, mI a1, mI (s)] [] := by
  obtain ⟨v2, rfl⟩ : ∃ z, z = s := ⟨s, rfl⟩
  unfold fX9_hasPerson_2f at h
  dsimp only at h
  refine v_iload_n F dX9_hasPerson_2 rfl rfl ?_
  refine v_aload_n F dX9_hasPerson_3 rfl rfl ?_
  refine gf_X9_34 F dX9_hasPerson_4 hp ?_
  refine v_icmp_ge F dX9_hasPerson_7 rfl (fun hq1 => ?_) (fun hq1 => ?_)
  · rw [if_pos hq1] at h
    obtain ⟨z, hu, ez⟩ := up_some h
    clear h
    subst ez
    have h := hu
    clear hu
    refine v_iconst F dX9_hasPerson_28 ⟨by decide, by decide⟩ ?_
    cases h
    cases (show _ = r from K)
    exact v_zret F (Or.inl rfl) dX9_hasPerson_29
  · rw [if_neg hq1] at h
    refine v_aload_n F dX9_hasPerson_10 rfl rfl ?_
    refine gf_X9_9 F dX9_hasPerson_11 hp (v := (o + 1)) rfl ?_
    refine v_iload_n F dX9_hasPerson_14 rfl rfl ?_
    obtain ⟨hi2, h⟩ := ck_some h
    refine v_iald F dX9_hasPerson_15 (ar_X9_1 hX hp) hi2 ?_
    refine v_iload_n F dX9_hasPerson_16 rfl rfl ?_
    refine v_icmp_ne F dX9_hasPerson_17 rfl (fun hq3 => ?_) (fun hq3 => ?_)
    · rw [if_neg hq3] at h
      obtain ⟨x4, ex4, h⟩ := lv_some h
      refine v_iincN F dX9_hasPerson_22 (Nat.le_of_ble_eq_true rfl) rfl ex4 (L' := [mA o, mI a1, mI x4]) rfl ?_
      refine v_goto F dX9_hasPerson_25 rfl ?_
      cases h
      exact K
    · rw [if_pos hq3] at h
      obtain ⟨z, hu, ez⟩ := up_some h
      clear h
      subst ez
      have h := hu
      clear hu
      refine v_iconst F dX9_hasPerson_20 ⟨by decide, by decide⟩ ?_
      cases h
      cases (show _ = r from K)
      exact v_zret F (Or.inr rfl) dX9_hasPerson_21
theorem fX9_hasPerson_2_ok {w : Wd} {l : Launch} {G : Cx} {d m dd : Dt} {o a1 v2 : Int} {r : Int} {x : Int} (F : Fx w G cX9_hasPerson RX9 3 (some .boolean) { frames := 0, cells := 0, slots := 0, locals := 0 }) (hX : WF dd m) (hp : PB m o 9) (h : fX9_hasPerson_2 d o a1 v2 = some x) (K : (fun q => q = r) x) : V w l WF G (QM w G WF (some (mI r)) d m 0 0) d m 0 0 2 [mA o, mI a1, mI v2] [] := by
  unfold fX9_hasPerson_2 at h
  exact loop_ok (P := fX9_hasPerson_2P w l G (QM w G WF (some (mI r)) d m 0 0) m d o a1) (fun s x hx h1 h2 => fX9_hasPerson_2f_ok F hX hp hx (by
    cases x with
    | inl s' => exact h1 s' rfl
    | inr z => cases h2 z rfl; exact K)) h
theorem vm_X9_hasPerson {w : Wd} {l : Launch} {d m : Dt} {o a1 : Int} {r : Int} (hp : PB m o 9) (h : fX9_hasPerson d o a1 = some r) : VM w l WF yX9_hasPerson cX9_hasPerson 3 (some .boolean) 0 0 0 0 d m [mA o, mI a1] (some (mI r)) d m := by
  obtain ⟨x, h, K⟩ : ∃ x, fX9_hasPerson d o a1 = some x ∧ x = r := ⟨_, h, rfl⟩
  refine VM.of (L := [mA o, mI a1, mU]) (by decide +kernel) rfl (Nat.le_of_ble_eq_true rfl) fun G F _ => v_fact fun _ hX _ _ => ?_
  unfold fX9_hasPerson at h
  refine v_iconst F dX9_hasPerson_0 ⟨by decide, by decide⟩ ?_
  refine v_istore_n F dX9_hasPerson_1 rfl (Nat.le_of_ble_eq_true rfl) (L' := [mA o, mI a1, mI 0]) rfl ?_
  exact fX9_hasPerson_2_ok F hX hp h K
theorem vm_X14_init {w : Wd} {l : Launch} {d m : Dt} {o a1 a2 a3 : Int} (hm : m 0 0 = o + 1) (obm : OB m o 13) (um : m o 3 = 0) : VM w l WF yX14_init cX14_init 4 none 1 20 0 0 d m [mA o, mI a1, mI a2, mI a3] none (nwX14 o a1 a2 a3 d) (na_X14 m) := by
  have ho := obm.1
  refine VM.of (L := [mA o, mI a1, mI a2, mI a3]) (by decide +kernel) rfl (Nat.le_of_ble_eq_true rfl) fun G F hnm => ?_
  refine v_aload_n F dX14_init_0 rfl rfl ?_
  refine v_objI F obm.1 dX14_init_1 q1648 q315 q316 (Nat.le_of_ble_eq_true rfl) (Nat.le_of_ble_eq_true rfl) (Nat.le_of_ble_eq_true rfl) ?_
  refine v_aload_n F dX14_init_4 rfl rfl ?_
  refine v_iconst F dX14_init_5 ⟨by decide, by decide⟩ ?_
  refine wpI F fz_X14_9 (fun h => by cases h) dX14_init_6 obm (Nat.le_of_ble_eq_true rfl) um rfl rfl ?_
  obtain ⟨d1, ed1⟩ : ∃ z, z = st d o 7 (-1) := ⟨_, rfl⟩
  refine v_nD ed1 ?_
  refine v_aload_n F dX14_init_9 rfl rfl ?_
  refine v_iload_n F dX14_init_10 rfl rfl ?_
  refine wpI F fz_X14_15 (fun _ => hnm) dX14_init_11 obm (Nat.le_of_ble_eq_true rfl) um rfl rfl ?_
  obtain ⟨d2, ed2⟩ : ∃ z, z = st d1 o 0 a1 := ⟨_, rfl⟩
  refine v_nD ed2 ?_
  refine v_aload_n F dX14_init_14 rfl rfl ?_
  refine v_iload_n F dX14_init_15 rfl rfl ?_
  refine wpI F fz_X14_18 (fun _ => hnm) dX14_init_16 obm (Nat.le_of_ble_eq_true rfl) um rfl rfl ?_
  obtain ⟨d3, ed3⟩ : ∃ z, z = st d2 o 1 a2 := ⟨_, rfl⟩
  refine v_nD ed3 ?_
  refine v_aload_n F dX14_init_19 rfl rfl ?_
  refine v_iload_n F dX14_init_20 rfl rfl ?_
  refine wpI F fz_X14_21 (fun _ => hnm) dX14_init_21 obm (Nat.le_of_ble_eq_true rfl) um rfl rfl ?_
  obtain ⟨d4, ed4⟩ : ∃ z, z = st d3 o 2 a3 := ⟨_, rfl⟩
  refine v_nD ed4 ?_
  have ed : d4 = nwX14 o a1 a2 a3 d := by rw [ed4, ed3, ed2, ed1]; rfl
  have em : m = na_X14 m := by rfl
  rw [← ed, ← em]
  exact v_vret F dX14_init_24
theorem vm_X0_stand {w : Wd} {l : Launch} {d m : Dt} {a1 a2 a3 : Int} {d' m' : Dt} {r : Int} (hp : PB m 1 0) (h : fX0_stand d m a1 a2 a3 = some (d', m', r)) : VM w l WF yX0_stand cX0_stand 5 (some .int) 7 163 1 8 d m [mA 1, mI a1, mI a2, mI a3] (some (mI r)) d' m' := by
  obtain ⟨x, h, K⟩ : ∃ x, fX0_stand d m a1 a2 a3 = some x ∧ x = (d', m', r) := ⟨_, h, rfl⟩
  refine VM.of (L := [mA 1, mI a1, mI a2, mI a3, mU]) (by decide +kernel) rfl (Nat.le_of_ble_eq_true rfl) fun G F _ => v_fact fun _ hX _ _ => ?_
  unfold fX0_stand at h
  refine v_aload_n F dX0_stand_0 rfl rfl ?_
  refine v_iload_n F dX0_stand_1 rfl rfl ?_
  obtain ⟨x1, hc2, h⟩ := b1_some h
  refine v_callVv (c := 0) F dX0_stand_2 cv_X0_296 rfl (PB.ob hp hX (Nat.le_of_ble_eq_true rfl)) (Nat.le_of_ble_eq_true rfl) rfl (vm_X0_isContest hp hc2) rfl (rOk.of rfl) ?_
  refine v_if_eq F dX0_stand_5 rfl (fun hq3 => ?_) (fun hq3 => ?_)
  · rw [if_pos hq3] at h
    refine v_iconst F dX0_stand_16 ⟨by decide, by decide⟩ ?_
    cases h
    cases (show _ = (d', m', r) from K)
    refine v_widen (mc := 1) (ms := 8) (Nat.zero_le _) (Nat.zero_le _) ?_
    exact v_iret F dX0_stand_17
  · rw [if_neg hq3] at h
    refine v_aload_n F dX0_stand_8 rfl rfl ?_
    refine v_iload_n F dX0_stand_9 rfl rfl ?_
    refine v_callVv (c := 0) F dX0_stand_10 cv_X0_210 rfl (PB.ob hp hX (Nat.le_of_ble_eq_true rfl)) (Nat.le_of_ble_eq_true rfl) rfl (vm_X0_isPerson hp) rfl (rOk.of rfl) ?_
    refine v_if_ne F dX0_stand_13 rfl (fun hq4 => ?_) (fun hq4 => ?_)
    · rw [if_neg hq4] at h
      refine v_iload_n F dX0_stand_18 rfl rfl ?_
      refine v_iconst F dX0_stand_19 ⟨by decide, by decide⟩ ?_
      refine v_bipush F dX0_stand_20 rfl ⟨by decide, by decide⟩ ?_
      refine v_callSv F dX0_stand_22 cs_X0_163 rfl (vm_X0_within) rfl (rOk.of rfl) ?_
      refine v_if_ne F dX0_stand_25 rfl (fun hq5 => ?_) (fun hq5 => ?_)
      · rw [if_neg hq5] at h
        refine v_aload_n F dX0_stand_31 rfl rfl ?_
        refine gf_X0_167 F dX0_stand_32 hp ?_
        refine v_aload_n F dX0_stand_35 rfl rfl ?_
        obtain ⟨x6, ex6, h⟩ := lv_some h
        obtain ⟨hn8, h⟩ := ck_some h
        refine gf_X0_42 F dX0_stand_36 hp ex6 fun hr7 => ?_
        have x6p := hr7.resolve_left hn8
        refine gf_X0_293 F dX0_stand_39 x6p (v := (x6 + 1)) rfl ?_
        refine v_iconst F dX0_stand_42 ⟨by decide, by decide⟩ ?_
        refine v_iald F dX0_stand_43 (ar_X4_0 hX x6p) ⟨by decide, by decide⟩ ?_
        refine v_icmp_gt F dX0_stand_44 rfl (fun hq9 => ?_) (fun hq9 => ?_)
        · rw [if_pos hq9] at h
          refine v_bipush F dX0_stand_54 rfl ⟨by decide, by decide⟩ ?_
          cases h
          cases (show _ = (d', m', r) from K)
          refine v_widen (mc := 1) (ms := 8) (Nat.zero_le _) (Nat.zero_le _) ?_
          exact v_iret F dX0_stand_56
        · rw [if_neg hq9] at h
          refine v_aload_n F dX0_stand_47 rfl rfl ?_
          refine gf_X0_265 F dX0_stand_48 hp ?_
          refine v_if_eq F dX0_stand_51 rfl (fun hq10 => ?_) (fun hq10 => ?_)
          · rw [if_pos hq10] at h
            refine v_aload_n F dX0_stand_57 rfl rfl ?_
            refine gf_X0_62 F dX0_stand_58 hp (v := 57) rfl ?_
            refine v_iload_n F dX0_stand_61 rfl rfl ?_
            obtain ⟨hi11, h⟩ := ck_some h
            refine v_aaldF (c := 0) (k := 13) F dX0_stand_62 hp (Nat.le_of_ble_eq_true rfl) (Nat.le_of_ble_eq_true rfl) (by decide) (by decide) rfl (ar_X0_13 hX hp) (Nat.le_of_ble_eq_true rfl) rfl rfl rfl rfl hi11 (v := (629 + 8 * a1)) (by show 1 + 628 + 8 * a1 = _; omega) ?_
            obtain ⟨x12, ex12, h⟩ := lv_some h
            refine v_nA ex12 ?_
            have x12p : PB m x12 9 := by rw [ex12]; exact (ae_X0_13 (i := a1) hX hp hi11 (v := (629 + 8 * a1)) (by omega))
            refine v_astore F dX0_stand_63 (Nat.le_of_ble_eq_true rfl) (L' := [mA 1, mI a1, mI a2, mI a3, mA x12]) rfl ?_
            refine v_aload_n F dX0_stand_65 rfl rfl ?_
            obtain ⟨x13, ex13, h⟩ := lv_some h
            obtain ⟨hn15, h⟩ := ck_some h
            refine gf_X0_42 F dX0_stand_66 hp ex13 fun hr14 => ?_
            have x13p := hr14.resolve_left hn15
            refine v_aload_n F dX0_stand_69 rfl rfl ?_
            obtain ⟨x16, ex16, h⟩ := lv_some h
            obtain ⟨hn18, h⟩ := ck_some h
            refine gf_X0_42 F dX0_stand_70 hp ex16 fun hr17 => ?_
            have x16p := hr17.resolve_left hn18
            refine gf_X0_332 F dX0_stand_73 x16p (v := (x16 + 4)) rfl ?_
            refine v_aload_n F dX0_stand_76 rfl rfl ?_
            refine gf_X0_26 F dX0_stand_77 hp (v := 9) rfl ?_
            refine v_iload_n F dX0_stand_80 rfl rfl ?_
            obtain ⟨hi19, h⟩ := ck_some h
            obtain ⟨x20, ex20, h⟩ := lv_some h
            obtain ⟨hn22, h⟩ := ck_some h
            refine v_aaldN (t := 109) (c := 12) F dX0_stand_81 (ar_X0_4 hX hp) (Nat.le_of_ble_eq_true rfl) rfl rfl rfl rfl rfl hi19 ex20 fun hr21 => ?_
            have x20p := hr21.resolve_left hn22
            refine v_aload_n F dX0_stand_82 rfl rfl ?_
            refine gf_X0_20 F dX0_stand_83 hp (v := 3) rfl ?_
            obtain ⟨d23, x25, hc24, h⟩ := b2_some h
            refine v_callVv (c := 4) F dX0_stand_86 cv_X0_328 rfl (PB.ob x13p hX (Nat.le_of_ble_eq_true rfl)) (Nat.le_of_ble_eq_true rfl) rfl (vm_X4_may x13p (ob_X4_7 hX x16p) x20p (ob_X0_3 hX hp) hc24) rfl (rOk.of rfl) ?_
            refine v_if_eq F dX0_stand_89 rfl (fun hq26 => ?_) (fun hq26 => ?_)
            · rw [if_pos hq26] at h
              refine v_bipush F dX0_stand_117 rfl ⟨by decide, by decide⟩ ?_
              cases h
              cases (show _ = (d', m', r) from K)
              refine v_widen (mc := 1) (ms := 8) (Nat.zero_le _) (Nat.zero_le _) ?_
              exact v_iret F dX0_stand_119
            · rw [if_neg hq26] at h
              refine v_aload_n F dX0_stand_92 rfl rfl ?_
              refine gf_X0_26 F dX0_stand_93 hp (v := 9) rfl ?_
              refine v_iload_n F dX0_stand_96 rfl rfl ?_
              obtain ⟨x27, ex27, h⟩ := lv_some h
              obtain ⟨hn29, h⟩ := ck_some h
              refine v_aaldN (t := 109) (c := 12) F dX0_stand_97 (ar_X0_4 hX hp) (Nat.le_of_ble_eq_true rfl) rfl rfl rfl rfl rfl hi19 ex27 fun hr28 => ?_
              have x27p := hr28.resolve_left hn29
              refine v_aload_n F dX0_stand_98 rfl rfl ?_
              refine gf_X0_167 F dX0_stand_99 hp ?_
              refine v_callVv (c := 12) F dX0_stand_102 cv_X0_339 rfl (PB.ob x27p hX (Nat.le_of_ble_eq_true rfl)) (Nat.le_of_ble_eq_true rfl) rfl (vm_X13_isAlive x27p) rfl (rOk.of rfl) ?_
              refine v_if_eq F dX0_stand_105 rfl (fun hq30 => ?_) (fun hq30 => ?_)
              · rw [if_pos hq30] at h
                refine v_bipush F dX0_stand_117 rfl ⟨by decide, by decide⟩ ?_
                cases h
                cases (show _ = (d', m', r) from K)
                refine v_widen (mc := 1) (ms := 8) (Nat.zero_le _) (Nat.zero_le _) ?_
                exact v_iret F dX0_stand_119
              · rw [if_neg hq30] at h
                refine v_aload F dX0_stand_108 rfl ?_
                refine v_iload_n F dX0_stand_110 rfl rfl ?_
                obtain ⟨x31, hc32, h⟩ := b1_some h
                refine v_callVv (c := 9) F dX0_stand_111 cv_X0_342 rfl (PB.ob x12p hX (Nat.le_of_ble_eq_true rfl)) (Nat.le_of_ble_eq_true rfl) rfl (vm_X9_hasPerson x12p hc32) rfl (rOk.of rfl) ?_
                refine v_if_eq F dX0_stand_114 rfl (fun hq33 => ?_) (fun hq33 => ?_)
                · rw [if_pos hq33] at h
                  refine v_aload F dX0_stand_120 rfl ?_
                  refine gf_X0_345 F dX0_stand_122 x12p ?_
                  refine v_bipush F dX0_stand_125 rfl ⟨by decide, by decide⟩ ?_
                  refine v_icmp_ne F dX0_stand_127 rfl (fun hq34 => ?_) (fun hq34 => ?_)
                  · rw [if_neg hq34] at h
                    refine v_aload F dX0_stand_133 rfl ?_
                    refine gf_X0_346 F dX0_stand_135 x12p (v := (x12 + 1)) rfl ?_
                    refine v_aload F dX0_stand_138 rfl ?_
                    refine gf_X0_345 F dX0_stand_140 x12p ?_
                    refine v_iload_n F dX0_stand_143 rfl rfl ?_
                    obtain ⟨x35, ex35, h⟩ := lv_some h
                    refine v_n2 ex35 ?_
                    obtain ⟨hi36, h⟩ := ck_some h
                    obtain ⟨d37, ed37, h⟩ := sd_some h
                    refine v_iast F dX0_stand_144 (ar_X9_1 hX x12p) hi36 ?_
                    refine v_nD ed37 ?_
                    refine v_aload F dX0_stand_145 rfl ?_
                    refine v_dup_A F dX0_stand_147 ?_
                    refine gf_X0_345 F dX0_stand_148 x12p ?_
                    refine v_iconst F dX0_stand_151 ⟨by decide, by decide⟩ ?_
                    refine v_iadd F dX0_stand_152 ?_
                    obtain ⟨d38, ed38, h⟩ := sd_some h
                    refine pf_X0_345 F dX0_stand_153 x12p ?_
                    refine v_nD ed38 ?_
                    refine v_aload_n F dX0_stand_156 rfl rfl ?_
                    refine gf_X0_68 F dX0_stand_157 hp (v := 58) rfl ?_
                    refine v_aload_n F dX0_stand_160 rfl rfl ?_
                    refine gf_X0_262 F dX0_stand_161 hp ?_
                    obtain ⟨o39, eo39, h⟩ := lv_some h
                    refine v_fact fun hv _ _ _ => ?_
                    have hb := hv.1
                    have hp0 := hp
                    refine v_new (c := 13) (n := 8) F dX0_stand_164 rfl (Nat.le_of_ble_eq_true rfl) rfl ok_X14 q700 q1644 q307 in_X14 tyX14_ok (fun hv hX => hX.grow hv) (Nat.le_of_ble_eq_true rfl) (Nat.le_of_ble_eq_true rfl) (a := o39) eo39.symm ?_
                    obtain ⟨m1, em1⟩ : ∃ z, z = aln m ((13 : Nat) + 1 : Int) 0 := ⟨_, rfl⟩
                    refine v_nM em1 ?_
                    have hm1 : m1 0 0 = o39 + 1 := by rw [em1, aln_next hb, eo39]
                    have ob1 : OB m1 o39 13 := ⟨by omega, by rw [em1, eo39]; exact aln_1⟩
                    have u1 : m1 o39 3 = 0 := by rw [em1, eo39]; exact aln_3
                    have hp : PB m1 1 0 := by rw [em1]; exact hp.alx hv
                    refine v_fact fun _ hX _ _ => ?_
                    refine v_dup_A F dX0_stand_167 ?_
                    refine v_iload_n F dX0_stand_168 rfl rfl ?_
                    refine v_iload_n F dX0_stand_169 rfl rfl ?_
                    refine v_iload_n F dX0_stand_170 rfl rfl ?_
                    obtain ⟨d40, ed40, h⟩ := lm_some h
                    obtain ⟨m41, em41, h⟩ := lm_some h
                    have hi := (ns_X14 hm1 ob1.1).1
                    refine v_initO (c := 13) F dX0_stand_171 cn_X0_348 rfl ob1.1 (vm_X14_init hm1 ob1 u1) rfl (rOk.of rfl) (hi.ob ob1) (Nat.le_of_ble_eq_true rfl) (hi.u u1) hi.lt (own_X14 hm1 ob1.1) ?_
                    refine v_nD ed40 ?_
                    refine v_nM (show m41 = _ by rw [em41, em1, eo39]; rfl) ?_
                    have obp : PB m41 o39 13 := by rw [em41, eo39]; exact st_eq _ _ _ _
                    have hp : PB m41 1 0 := by rw [em41]; exact pb_X14 hv hp0
                    refine v_fact fun _ hX _ _ => ?_
                    obtain ⟨x42, ex42, h⟩ := lv_some h
                    refine v_n2 ex42 ?_
                    obtain ⟨hi43, h⟩ := ck_some h
                    obtain ⟨d44, ed44, h⟩ := sd_some h
                    refine v_aast (t := 111) (c := 13) F dX0_stand_174 (ar_X0_14 hX hp) (Nat.le_of_ble_eq_true rfl) rfl rfl rfl rfl rfl obp (Nat.le_of_ble_eq_true rfl) hi43 ?_
                    refine v_nD ed44 ?_
                    refine v_aload_n F dX0_stand_175 rfl rfl ?_
                    refine v_dup_A F dX0_stand_176 ?_
                    refine gf_X0_262 F dX0_stand_177 hp ?_
                    refine v_iconst F dX0_stand_180 ⟨by decide, by decide⟩ ?_
                    refine v_iadd F dX0_stand_181 ?_
                    obtain ⟨d45, ed45, h⟩ := sd_some h
                    refine pf_X0_262 F dX0_stand_182 hp ?_
                    refine v_nD ed45 ?_
                    refine v_aload_n F dX0_stand_185 rfl rfl ?_
                    refine v_bipush F dX0_stand_186 rfl ⟨by decide, by decide⟩ ?_
                    refine v_iload_n F dX0_stand_188 rfl rfl ?_
                    refine v_iload_n F dX0_stand_189 rfl rfl ?_
                    refine v_iload_n F dX0_stand_190 rfl rfl ?_
                    refine v_iconst F dX0_stand_191 ⟨by decide, by decide⟩ ?_
                    obtain ⟨d46, hc47, h⟩ := bd_some h
                    refine v_callV0 (c := 0) F dX0_stand_192 cv_X0_173 rfl (PB.ob hp hX (Nat.le_of_ble_eq_true rfl)) (Nat.le_of_ble_eq_true rfl) rfl (vm_X0_write hp hc47) rfl (rOk.of rfl) ?_
                    refine v_aload_n F dX0_stand_195 rfl rfl ?_
                    refine gf_X0_262 F dX0_stand_196 hp ?_
                    refine v_iconst F dX0_stand_199 ⟨by decide, by decide⟩ ?_
                    refine v_isub F dX0_stand_200 ?_
                    cases h
                    cases (show _ = (d', m', r) from K)
                    exact v_iret F dX0_stand_201
                  · rw [if_pos hq34] at h
                    refine v_bipush F dX0_stand_130 rfl ⟨by decide, by decide⟩ ?_
                    cases h
                    cases (show _ = (d', m', r) from K)
                    refine v_widen (mc := 1) (ms := 8) (Nat.zero_le _) (Nat.zero_le _) ?_
                    exact v_iret F dX0_stand_132
                · rw [if_neg hq33] at h
                  refine v_bipush F dX0_stand_117 rfl ⟨by decide, by decide⟩ ?_
                  cases h
                  cases (show _ = (d', m', r) from K)
                  refine v_widen (mc := 1) (ms := 8) (Nat.zero_le _) (Nat.zero_le _) ?_
                  exact v_iret F dX0_stand_119
          · rw [if_neg hq10] at h
            refine v_bipush F dX0_stand_54 rfl ⟨by decide, by decide⟩ ?_
            cases h
            cases (show _ = (d', m', r) from K)
            refine v_widen (mc := 1) (ms := 8) (Nat.zero_le _) (Nat.zero_le _) ?_
            exact v_iret F dX0_stand_56
      · rw [if_pos hq5] at h
        refine v_bipush F dX0_stand_28 rfl ⟨by decide, by decide⟩ ?_
        cases h
        cases (show _ = (d', m', r) from K)
        refine v_widen (mc := 1) (ms := 8) (Nat.zero_le _) (Nat.zero_le _) ?_
        exact v_iret F dX0_stand_30
    · rw [if_pos hq4] at h
      refine v_iconst F dX0_stand_16 ⟨by decide, by decide⟩ ?_
      cases h
      cases (show _ = (d', m', r) from K)
      refine v_widen (mc := 1) (ms := 8) (Nat.zero_le _) (Nat.zero_le _) ?_
      exact v_iret F dX0_stand_17
theorem vm_X11_isBehindStanding {w : Wd} {l : Launch} {d m : Dt} {r : Int} (hp : PB m 1545 11) (h : fX11_isBehindStanding d = some r) : VM w l WF yX11_isBehindStanding cX11_isBehindStanding 1 (some .boolean) 1 21 0 0 d m [mA 1545] (some (mI r)) d m := by
  obtain ⟨x, h, K⟩ : ∃ x, fX11_isBehindStanding d = some x ∧ x = r := ⟨_, h, rfl⟩
  refine VM.of (L := [mA 1545]) (by decide +kernel) rfl (Nat.le_of_ble_eq_true rfl) fun G F _ => v_fact fun _ hX _ _ => ?_
  unfold fX11_isBehindStanding at h
  refine v_aload_n F dX11_isBehindStanding_0 rfl rfl ?_
  refine gf_X11_17 F dX11_isBehindStanding_1 hp ?_
  refine v_aload_n F dX11_isBehindStanding_4 rfl rfl ?_
  refine v_iconst F dX11_isBehindStanding_5 ⟨by decide, by decide⟩ ?_
  obtain ⟨x1, hc2, h⟩ := b1_some h
  refine v_callVv (c := 11) F dX11_isBehindStanding_6 cv_X11_466 rfl (PB.ob hp hX (Nat.le_of_ble_eq_true rfl)) (Nat.le_of_ble_eq_true rfl) rfl (vm_X11_lawIs hp hc2) rfl (rOk.of rfl) ?_
  refine v_icmp_gt F dX11_isBehindStanding_9 rfl (fun hq3 => ?_) (fun hq3 => ?_)
  · rw [if_pos hq3] at h
    refine v_iconst F dX11_isBehindStanding_19 ⟨by decide, by decide⟩ ?_
    refine v_goto F dX11_isBehindStanding_20 rfl ?_
    cases h
    cases (show _ = r from K)
    exact v_zret F (Or.inr rfl) dX11_isBehindStanding_24
  · rw [if_neg hq3] at h
    refine v_aload_n F dX11_isBehindStanding_12 rfl rfl ?_
    refine gf_X11_531 F dX11_isBehindStanding_13 hp ?_
    refine v_if_eq F dX11_isBehindStanding_16 rfl (fun hq4 => ?_) (fun hq4 => ?_)
    · rw [if_pos hq4] at h
      refine v_iconst F dX11_isBehindStanding_23 ⟨by decide, by decide⟩ ?_
      cases h
      cases (show _ = r from K)
      exact v_zret F (Or.inl rfl) dX11_isBehindStanding_24
    · rw [if_neg hq4] at h
      refine v_iconst F dX11_isBehindStanding_19 ⟨by decide, by decide⟩ ?_
      refine v_goto F dX11_isBehindStanding_20 rfl ?_
      cases h
      cases (show _ = r from K)
      exact v_zret F (Or.inr rfl) dX11_isBehindStanding_24
theorem vm_X11_isAlive {w : Wd} {l : Launch} {d m : Dt} {a1 a2 : Int} {r : Int} (hp : PB m 1545 11) (h : fX11_isAlive d a1 a2 = some r) : VM w l WF yX11_isAlive cX11_isAlive 3 (some .boolean) 0 0 0 0 d m [mA 1545, mI a1, mI a2] (some (mI r)) d m := by
  obtain ⟨x, h, K⟩ : ∃ x, fX11_isAlive d a1 a2 = some x ∧ x = r := ⟨_, h, rfl⟩
  refine VM.of (L := [mA 1545, mI a1, mI a2]) (by decide +kernel) rfl (Nat.le_of_ble_eq_true rfl) fun G F _ => v_fact fun _ hX _ _ => ?_
  unfold fX11_isAlive at h
  refine v_aload_n F dX11_isAlive_0 rfl rfl ?_
  refine gf_X11_95 F dX11_isAlive_1 hp (v := 1552) rfl ?_
  refine v_iload_n F dX11_isAlive_4 rfl rfl ?_
  obtain ⟨hi1, h⟩ := ck_some h
  refine v_iald F dX11_isAlive_5 (ar_X11_11 hX hp) hi1 ?_
  refine v_iload_n F dX11_isAlive_6 rfl rfl ?_
  refine v_icmp_gt F dX11_isAlive_7 rfl (fun hq2 => ?_) (fun hq2 => ?_)
  · rw [if_pos hq2] at h
    refine v_iconst F dX11_isAlive_35 ⟨by decide, by decide⟩ ?_
    cases h
    cases (show _ = r from K)
    exact v_zret F (Or.inl rfl) dX11_isAlive_36
  · rw [if_neg hq2] at h
    refine v_aload_n F dX11_isAlive_10 rfl rfl ?_
    refine gf_X11_107 F dX11_isAlive_11 hp (v := 1556) rfl ?_
    refine v_iload_n F dX11_isAlive_14 rfl rfl ?_
    refine v_iald F dX11_isAlive_15 (ar_X11_15 hX hp) hi1 ?_
    refine v_ldc (n := (-2147483648)) F dX11_isAlive_16 q2483 rfl ⟨by decide, by decide⟩ ?_
    refine v_icmp_eq F dX11_isAlive_18 rfl (fun hq3 => ?_) (fun hq3 => ?_)
    · rw [if_pos hq3] at h
      refine v_iconst F dX11_isAlive_31 ⟨by decide, by decide⟩ ?_
      refine v_goto F dX11_isAlive_32 rfl ?_
      cases h
      cases (show _ = r from K)
      exact v_zret F (Or.inr rfl) dX11_isAlive_36
    · rw [if_neg hq3] at h
      refine v_aload_n F dX11_isAlive_21 rfl rfl ?_
      refine gf_X11_107 F dX11_isAlive_22 hp (v := 1556) rfl ?_
      refine v_iload_n F dX11_isAlive_25 rfl rfl ?_
      refine v_iald F dX11_isAlive_26 (ar_X11_15 hX hp) hi1 ?_
      refine v_iload_n F dX11_isAlive_27 rfl rfl ?_
      refine v_icmp_le F dX11_isAlive_28 rfl (fun hq4 => ?_) (fun hq4 => ?_)
      · rw [if_pos hq4] at h
        refine v_iconst F dX11_isAlive_35 ⟨by decide, by decide⟩ ?_
        cases h
        cases (show _ = r from K)
        exact v_zret F (Or.inl rfl) dX11_isAlive_36
      · rw [if_neg hq4] at h
        refine v_iconst F dX11_isAlive_31 ⟨by decide, by decide⟩ ?_
        refine v_goto F dX11_isAlive_32 rfl ?_
        cases h
        cases (show _ = r from K)
        exact v_zret F (Or.inr rfl) dX11_isAlive_36
def fX11_stand_54P (w : Wd) (l : Launch) (G : Cx) (Q : State → Prop) (m : Dt) (d : Dt) (a1 a2 a3 : Int) (s : Int × Int × Int) : Prop := V w l WF G Q d m 0 0 54 [mA 1545, mI a1, mI a2, mI a3, mI (s.1), mI (s.2.1), mI (s.2.2), mU] []
def fX11_stand_228P (w : Wd) (l : Launch) (G : Cx) (Q : State → Prop) (m : Dt) (a1 a2 a3 v6 : Int) (s : Dt × Int) : Prop := V w l WF G Q s.1 m 0 0 228 [mA 1545, mI a1, mI a2, mI a3, mU, mU, mI v6, mI (s.2)] []
theorem fX11_stand_228f_ok {w : Wd} {l : Launch} {G : Cx} {m dd : Dt} {a1 a2 a3 v6 : Int} {d' : Dt} {r : Int} {s : Dt × Int} {x : ((Dt × Int) ⊕ (Dt × Int))} (F : Fx w G cX11_stand RX11 8 (some .int) { frames := 6, cells := 0, slots := 0, locals := 144 }) (hX : WF dd m) (hp : PB m 1545 11) (h : fX11_stand_228f a1 a2 a3 v6 s = some x) (K : (Sum.elim (fX11_stand_228P w l G (QM w G WF (some (mI r)) d' m 0 0) m a1 a2 a3 v6) (fun q => q = (d', r))) x) : V w l WF G (QM w G WF (some (mI r)) d' m 0 0) s.1 m 0 0 228 [mA 1545, mI a1, mI a2, mI a3, mU, mU, mI v6, mI (s.2)] [] := by
  obtain ⟨d, v7⟩ := s
  unfold fX11_stand_228f at h
  dsimp only at h
  refine v_iload F dX11_stand_228 rfl ?_
  refine v_bipush F dX11_stand_230 rfl ⟨by decide, by decide⟩ ?_
  refine v_icmp_ge F dX11_stand_232 rfl (fun hq26 => ?_) (fun hq26 => ?_)
  · rw [if_pos hq26] at h
    obtain ⟨z, hu, ez⟩ := up_some h
    clear h
    subst ez
    have h := hu
    clear hu
    refine v_aload_n F dX11_stand_255 rfl rfl ?_
    refine v_bipush F dX11_stand_256 rfl ⟨by decide, by decide⟩ ?_
    refine v_iload_n F dX11_stand_258 rfl rfl ?_
    refine v_iload_n F dX11_stand_259 rfl rfl ?_
    refine v_iload_n F dX11_stand_260 rfl rfl ?_
    refine v_iconst F dX11_stand_261 ⟨by decide, by decide⟩ ?_
    obtain ⟨d27, hc28, h⟩ := bd_some h
    refine v_callV0 (c := 11) F dX11_stand_262 cv_X11_22 rfl (PB.ob hp hX (Nat.le_of_ble_eq_true rfl)) (Nat.le_of_ble_eq_true rfl) rfl (vm_X11_write hp hc28) rfl (rOk.of rfl) ?_
    refine v_iload F dX11_stand_265 rfl ?_
    cases h
    cases (show _ = (d', r) from K)
    exact v_iret F dX11_stand_267
  · rw [if_neg hq26] at h
    refine v_aload_n F dX11_stand_235 rfl rfl ?_
    refine gf_X11_596 F dX11_stand_236 hp (v := 1588) rfl ?_
    refine v_bipush F dX11_stand_239 rfl ⟨by decide, by decide⟩ ?_
    refine v_iload F dX11_stand_241 rfl ?_
    refine v_imul F dX11_stand_243 ?_
    refine v_iload F dX11_stand_244 rfl ?_
    refine v_iadd F dX11_stand_246 ?_
    refine v_iconst F dX11_stand_247 ⟨by decide, by decide⟩ ?_
    obtain ⟨x29, ex29, h⟩ := lv_some h
    refine v_n2 ex29 ?_
    obtain ⟨hi30, h⟩ := ck_some h
    obtain ⟨d31, ed31, h⟩ := sd_some h
    refine v_zast F dX11_stand_248 (ar_X11_63 hX hp) hi30 ?_
    refine v_nD ed31 ?_
    obtain ⟨x32, ex32, h⟩ := lv_some h
    refine v_iincN F dX11_stand_249 (Nat.le_of_ble_eq_true rfl) rfl ex32 (L' := [mA 1545, mI a1, mI a2, mI a3, mU, mU, mI v6, mI x32]) rfl ?_
    refine v_goto F dX11_stand_252 rfl ?_
    cases h
    exact K
theorem fX11_stand_228_ok {w : Wd} {l : Launch} {G : Cx} {d m dd : Dt} {a1 a2 a3 v6 v7 : Int} {d' : Dt} {r : Int} {x : (Dt × Int)} (F : Fx w G cX11_stand RX11 8 (some .int) { frames := 6, cells := 0, slots := 0, locals := 144 }) (hX : WF dd m) (hp : PB m 1545 11) (h : fX11_stand_228 d a1 a2 a3 v6 v7 = some x) (K : (fun q => q = (d', r)) x) : V w l WF G (QM w G WF (some (mI r)) d' m 0 0) d m 0 0 228 [mA 1545, mI a1, mI a2, mI a3, mU, mU, mI v6, mI v7] [] := by
  unfold fX11_stand_228 at h
  exact loop_ok (P := fX11_stand_228P w l G (QM w G WF (some (mI r)) d' m 0 0) m a1 a2 a3 v6) (fun s x hx h1 h2 => fX11_stand_228f_ok F hX hp hx (by
    cases x with
    | inl s' => exact h1 s' rfl
    | inr z => cases h2 z rfl; exact K)) h
theorem fX11_stand_113_ok {w : Wd} {l : Launch} {G : Cx} {d m dd : Dt} {a1 a2 a3 v4 v6 s0 s1 : Int} {d' : Dt} {r : Int} {x : ((Int × Int × Int) ⊕ (Dt × Int))} (F : Fx w G cX11_stand RX11 8 (some .int) { frames := 6, cells := 0, slots := 0, locals := 144 }) (hX : WF dd m) (hp : PB m 1545 11) (h : fX11_stand_113 d a1 a2 a3 v4 v6 s0 s1 = some x) (K : (Sum.elim (fX11_stand_54P w l G (QM w G WF (some (mI r)) d' m 0 0) m d a1 a2 a3) (fun q => q = (d', r))) x) : V w l WF G (QM w G WF (some (mI r)) d' m 0 0) d m 0 0 113 [mA 1545, mI a1, mI a2, mI a3, mI v4, mU, mI v6, mU] [mI s1, mI s0] := by
  unfold fX11_stand_113 at h
  refine v_ior F dX11_stand_113 ?_
  obtain ⟨x38, ex38, h⟩ := lv_some h
  refine v_nI ex38 ?_
  refine v_istore F dX11_stand_114 (Nat.le_of_ble_eq_true rfl) (L' := [mA 1545, mI a1, mI a2, mI a3, mI v4, mI x38, mI v6, mU]) rfl ?_
  obtain ⟨x39, ex39, h⟩ := lv_some h
  refine v_iincN F dX11_stand_116 (Nat.le_of_ble_eq_true rfl) rfl ex39 (L' := [mA 1545, mI a1, mI a2, mI a3, mI v4, mI x38, mI x39, mU]) rfl ?_
  refine v_goto F dX11_stand_119 rfl ?_
  cases h
  exact K
theorem fX11_stand_81_ok {w : Wd} {l : Launch} {G : Cx} {d m dd : Dt} {a1 a2 a3 v5 v6 s0 s1 : Int} {d' : Dt} {r : Int} {x : ((Int × Int × Int) ⊕ (Dt × Int))} (F : Fx w G cX11_stand RX11 8 (some .int) { frames := 6, cells := 0, slots := 0, locals := 144 }) (hX : WF dd m) (hp : PB m 1545 11) (h : fX11_stand_81 d a1 a2 a3 v5 v6 s0 s1 = some x) (K : (Sum.elim (fX11_stand_54P w l G (QM w G WF (some (mI r)) d' m 0 0) m d a1 a2 a3) (fun q => q = (d', r))) x) : V w l WF G (QM w G WF (some (mI r)) d' m 0 0) d m 0 0 81 [mA 1545, mI a1, mI a2, mI a3, mU, mI v5, mI v6, mU] [mI s1, mI s0] := by
  unfold fX11_stand_81 at h
  refine v_iadd F dX11_stand_81 ?_
  obtain ⟨x35, ex35, h⟩ := lv_some h
  refine v_nI ex35 ?_
  refine v_istore F dX11_stand_82 (Nat.le_of_ble_eq_true rfl) (L' := [mA 1545, mI a1, mI a2, mI a3, mI x35, mI v5, mI v6, mU]) rfl ?_
  refine v_iload F dX11_stand_84 rfl ?_
  refine v_aload_n F dX11_stand_86 rfl rfl ?_
  refine gf_X11_575 F dX11_stand_87 hp (v := 1582) rfl ?_
  refine v_iload F dX11_stand_90 rfl ?_
  obtain ⟨hi36, h⟩ := ck_some h
  refine v_iald F dX11_stand_92 (ar_X11_57 hX hp) hi36 ?_
  refine v_iload_n F dX11_stand_93 rfl rfl ?_
  refine v_icmp_ne F dX11_stand_94 rfl (fun hq37 => ?_) (fun hq37 => ?_)
  · rw [if_neg hq37] at h
    refine v_iconst F dX11_stand_112 ⟨by decide, by decide⟩ ?_
    refine v_fgt (L' := [mA 1545, mI a1, mI a2, mI a3, mI x35, mU, mI v6, mU]) ⟨Or.inl rfl, Or.inl rfl, Or.inl rfl, Or.inl rfl, Or.inl rfl, Or.inr rfl, Or.inl rfl, Or.inl rfl, trivial⟩ ?_
    exact fX11_stand_113_ok F hX hp h K
  · rw [if_pos hq37] at h
    refine v_aload_n F dX11_stand_97 rfl rfl ?_
    refine gf_X11_578 F dX11_stand_98 hp (v := 1583) rfl ?_
    refine v_iload F dX11_stand_101 rfl ?_
    refine v_iald F dX11_stand_103 (ar_X11_58 hX hp) hi36 ?_
    refine v_iload_n F dX11_stand_104 rfl rfl ?_
    refine v_icmp_ne F dX11_stand_105 rfl (fun hq40 => ?_) (fun hq40 => ?_)
    · rw [if_neg hq40] at h
      refine v_iconst F dX11_stand_112 ⟨by decide, by decide⟩ ?_
      refine v_fgt (L' := [mA 1545, mI a1, mI a2, mI a3, mI x35, mU, mI v6, mU]) ⟨Or.inl rfl, Or.inl rfl, Or.inl rfl, Or.inl rfl, Or.inl rfl, Or.inr rfl, Or.inl rfl, Or.inl rfl, trivial⟩ ?_
      exact fX11_stand_113_ok F hX hp h K
    · rw [if_pos hq40] at h
      refine v_iconst F dX11_stand_108 ⟨by decide, by decide⟩ ?_
      refine v_goto F dX11_stand_109 rfl ?_
      refine v_fgt (L' := [mA 1545, mI a1, mI a2, mI a3, mI x35, mU, mI v6, mU]) ⟨Or.inl rfl, Or.inl rfl, Or.inl rfl, Or.inl rfl, Or.inl rfl, Or.inr rfl, Or.inl rfl, Or.inl rfl, trivial⟩ ?_
      exact fX11_stand_113_ok F hX hp h K
theorem fX11_stand_54f_ok {w : Wd} {l : Launch} {G : Cx} {d m dd : Dt} {a1 a2 a3 : Int} {d' : Dt} {r : Int} {s : Int × Int × Int} {x : ((Int × Int × Int) ⊕ (Dt × Int))} (F : Fx w G cX11_stand RX11 8 (some .int) { frames := 6, cells := 0, slots := 0, locals := 144 }) (hX : WF dd m) (hp : PB m 1545 11) (h : fX11_stand_54f d a1 a2 a3 s = some x) (K : (Sum.elim (fX11_stand_54P w l G (QM w G WF (some (mI r)) d' m 0 0) m d a1 a2 a3) (fun q => q = (d', r))) x) : V w l WF G (QM w G WF (some (mI r)) d' m 0 0) d m 0 0 54 [mA 1545, mI a1, mI a2, mI a3, mI (s.1), mI (s.2.1), mI (s.2.2), mU] [] := by
  obtain ⟨v4, v5, v6⟩ := s
  unfold fX11_stand_54f at h
  dsimp only at h
  refine v_iload F dX11_stand_54 rfl ?_
  refine v_aload_n F dX11_stand_56 rfl rfl ?_
  refine gf_X11_528 F dX11_stand_57 hp ?_
  refine v_icmp_ge F dX11_stand_60 rfl (fun hq7 => ?_) (fun hq7 => ?_)
  · rw [if_pos hq7] at h
    obtain ⟨z, hu, ez⟩ := up_some h
    clear h
    subst ez
    have h := hu
    clear hu
    refine v_aload_n F dX11_stand_122 rfl rfl ?_
    refine v_iload_n F dX11_stand_123 rfl rfl ?_
    refine v_iconst F dX11_stand_124 ⟨by decide, by decide⟩ ?_
    obtain ⟨d8, x10, hc9, h⟩ := b2_some h
    refine v_callVv (c := 11) F dX11_stand_125 cv_X11_524 rfl (PB.ob hp hX (Nat.le_of_ble_eq_true rfl)) (Nat.le_of_ble_eq_true rfl) rfl (vm_X11_lets hp hc9) rfl (rOk.of rfl) ?_
    refine v_if_eq F dX11_stand_128 rfl (fun hq11 => ?_) (fun hq11 => ?_)
    · rw [if_pos hq11] at h
      refine v_bipush F dX11_stand_148 rfl ⟨by decide, by decide⟩ ?_
      cases h
      cases (show _ = (d', r) from K)
      exact v_iret F dX11_stand_150
    · rw [if_neg hq11] at h
      refine v_aload_n F dX11_stand_131 rfl rfl ?_
      refine v_iload_n F dX11_stand_132 rfl rfl ?_
      refine v_aload_n F dX11_stand_133 rfl rfl ?_
      refine gf_X11_17 F dX11_stand_134 hp ?_
      obtain ⟨x12, hc13, h⟩ := b1_some h
      refine v_callVv (c := 11) F dX11_stand_137 cv_X11_581 rfl (PB.ob hp hX (Nat.le_of_ble_eq_true rfl)) (Nat.le_of_ble_eq_true rfl) rfl (vm_X11_isAlive hp hc13) rfl (rOk.of rfl) ?_
      refine v_if_eq F dX11_stand_140 rfl (fun hq14 => ?_) (fun hq14 => ?_)
      · rw [if_pos hq14] at h
        refine v_bipush F dX11_stand_148 rfl ⟨by decide, by decide⟩ ?_
        cases h
        cases (show _ = (d', r) from K)
        exact v_iret F dX11_stand_150
      · rw [if_neg hq14] at h
        refine v_iload F dX11_stand_143 rfl ?_
        refine v_if_eq F dX11_stand_145 rfl (fun hq15 => ?_) (fun hq15 => ?_)
        · rw [if_pos hq15] at h
          refine v_iload F dX11_stand_151 rfl ?_
          refine v_bipush F dX11_stand_153 rfl ⟨by decide, by decide⟩ ?_
          refine v_icmp_ne F dX11_stand_155 rfl (fun hq16 => ?_) (fun hq16 => ?_)
          · rw [if_neg hq16] at h
            refine v_aload_n F dX11_stand_161 rfl rfl ?_
            refine gf_X11_528 F dX11_stand_162 hp ?_
            obtain ⟨x17, ex17, h⟩ := lv_some h
            refine v_nI ex17 ?_
            refine v_istore F dX11_stand_165 (Nat.le_of_ble_eq_true rfl) (L' := [mA 1545, mI a1, mI a2, mI a3, mI v4, mI v5, mI x17, mU]) rfl ?_
            refine v_aload_n F dX11_stand_167 rfl rfl ?_
            refine v_dup_A F dX11_stand_168 ?_
            refine gf_X11_528 F dX11_stand_169 hp ?_
            refine v_iconst F dX11_stand_172 ⟨by decide, by decide⟩ ?_
            refine v_iadd F dX11_stand_173 ?_
            obtain ⟨d18, ed18, h⟩ := sd_some h
            refine pf_X11_528 F dX11_stand_174 hp ?_
            refine v_nD ed18 ?_
            refine v_aload_n F dX11_stand_177 rfl rfl ?_
            refine gf_X11_575 F dX11_stand_178 hp (v := 1582) rfl ?_
            refine v_iload F dX11_stand_181 rfl ?_
            refine v_iload_n F dX11_stand_183 rfl rfl ?_
            obtain ⟨hi19, h⟩ := ck_some h
            obtain ⟨d20, ed20, h⟩ := sd_some h
            refine v_iast F dX11_stand_184 (ar_X11_57 hX hp) hi19 ?_
            refine v_nD ed20 ?_
            refine v_aload_n F dX11_stand_185 rfl rfl ?_
            refine gf_X11_578 F dX11_stand_186 hp (v := 1583) rfl ?_
            refine v_iload F dX11_stand_189 rfl ?_
            refine v_iload_n F dX11_stand_191 rfl rfl ?_
            obtain ⟨d21, ed21, h⟩ := sd_some h
            refine v_iast F dX11_stand_192 (ar_X11_58 hX hp) hi19 ?_
            refine v_nD ed21 ?_
            refine v_aload_n F dX11_stand_193 rfl rfl ?_
            refine gf_X11_584 F dX11_stand_194 hp (v := 1584) rfl ?_
            refine v_iload F dX11_stand_197 rfl ?_
            refine v_iload_n F dX11_stand_199 rfl rfl ?_
            obtain ⟨d22, ed22, h⟩ := sd_some h
            refine v_iast F dX11_stand_200 (ar_X11_59 hX hp) hi19 ?_
            refine v_nD ed22 ?_
            refine v_aload_n F dX11_stand_201 rfl rfl ?_
            refine gf_X11_587 F dX11_stand_202 hp (v := 1585) rfl ?_
            refine v_iload F dX11_stand_205 rfl ?_
            refine v_iconst F dX11_stand_207 ⟨by decide, by decide⟩ ?_
            obtain ⟨d23, ed23, h⟩ := sd_some h
            refine v_iast F dX11_stand_208 (ar_X11_60 hX hp) hi19 ?_
            refine v_nD ed23 ?_
            refine v_aload_n F dX11_stand_209 rfl rfl ?_
            refine gf_X11_590 F dX11_stand_210 hp (v := 1586) rfl ?_
            refine v_iload F dX11_stand_213 rfl ?_
            refine v_iconst F dX11_stand_215 ⟨by decide, by decide⟩ ?_
            obtain ⟨d24, ed24, h⟩ := sd_some h
            refine v_iast F dX11_stand_216 (ar_X11_61 hX hp) hi19 ?_
            refine v_nD ed24 ?_
            refine v_aload_n F dX11_stand_217 rfl rfl ?_
            refine gf_X11_593 F dX11_stand_218 hp (v := 1587) rfl ?_
            refine v_iload F dX11_stand_221 rfl ?_
            refine v_iconst F dX11_stand_223 ⟨by decide, by decide⟩ ?_
            obtain ⟨d25, ed25, h⟩ := sd_some h
            refine v_iast F dX11_stand_224 (ar_X11_62 hX hp) hi19 ?_
            refine v_nD ed25 ?_
            refine v_iconst F dX11_stand_225 ⟨by decide, by decide⟩ ?_
            refine v_istore F dX11_stand_226 (Nat.le_of_ble_eq_true rfl) (L' := [mA 1545, mI a1, mI a2, mI a3, mI v4, mI v5, mI x17, mI 0]) rfl ?_
            refine v_fgt (L' := [mA 1545, mI a1, mI a2, mI a3, mU, mU, mI x17, mI 0]) ⟨Or.inl rfl, Or.inl rfl, Or.inl rfl, Or.inl rfl, Or.inr rfl, Or.inr rfl, Or.inl rfl, Or.inl rfl, trivial⟩ ?_
            exact fX11_stand_228_ok F hX hp h K
          · rw [if_pos hq16] at h
            refine v_bipush F dX11_stand_158 rfl ⟨by decide, by decide⟩ ?_
            cases h
            cases (show _ = (d', r) from K)
            exact v_iret F dX11_stand_160
        · rw [if_neg hq15] at h
          refine v_bipush F dX11_stand_148 rfl ⟨by decide, by decide⟩ ?_
          cases h
          cases (show _ = (d', r) from K)
          exact v_iret F dX11_stand_150
  · rw [if_neg hq7] at h
    refine v_iload F dX11_stand_63 rfl ?_
    refine v_aload_n F dX11_stand_65 rfl rfl ?_
    refine gf_X11_575 F dX11_stand_66 hp (v := 1582) rfl ?_
    refine v_iload F dX11_stand_69 rfl ?_
    obtain ⟨hi33, h⟩ := ck_some h
    refine v_iald F dX11_stand_71 (ar_X11_57 hX hp) hi33 ?_
    refine v_iload_n F dX11_stand_72 rfl rfl ?_
    refine v_icmp_ne F dX11_stand_73 rfl (fun hq34 => ?_) (fun hq34 => ?_)
    · rw [if_neg hq34] at h
      refine v_iconst F dX11_stand_80 ⟨by decide, by decide⟩ ?_
      refine v_fgt (L' := [mA 1545, mI a1, mI a2, mI a3, mU, mI v5, mI v6, mU]) ⟨Or.inl rfl, Or.inl rfl, Or.inl rfl, Or.inl rfl, Or.inr rfl, Or.inl rfl, Or.inl rfl, Or.inl rfl, trivial⟩ ?_
      exact fX11_stand_81_ok F hX hp h K
    · rw [if_pos hq34] at h
      refine v_iconst F dX11_stand_76 ⟨by decide, by decide⟩ ?_
      refine v_goto F dX11_stand_77 rfl ?_
      refine v_fgt (L' := [mA 1545, mI a1, mI a2, mI a3, mU, mI v5, mI v6, mU]) ⟨Or.inl rfl, Or.inl rfl, Or.inl rfl, Or.inl rfl, Or.inr rfl, Or.inl rfl, Or.inl rfl, Or.inl rfl, trivial⟩ ?_
      exact fX11_stand_81_ok F hX hp h K
theorem fX11_stand_54_ok {w : Wd} {l : Launch} {G : Cx} {d m dd : Dt} {a1 a2 a3 v4 v5 v6 : Int} {d' : Dt} {r : Int} {x : (Dt × Int)} (F : Fx w G cX11_stand RX11 8 (some .int) { frames := 6, cells := 0, slots := 0, locals := 144 }) (hX : WF dd m) (hp : PB m 1545 11) (h : fX11_stand_54 d a1 a2 a3 v4 v5 v6 = some x) (K : (fun q => q = (d', r)) x) : V w l WF G (QM w G WF (some (mI r)) d' m 0 0) d m 0 0 54 [mA 1545, mI a1, mI a2, mI a3, mI v4, mI v5, mI v6, mU] [] := by
  unfold fX11_stand_54 at h
  exact loop_ok (P := fX11_stand_54P w l G (QM w G WF (some (mI r)) d' m 0 0) m d a1 a2 a3) (fun s x hx h1 h2 => fX11_stand_54f_ok F hX hp hx (by
    cases x with
    | inl s' => exact h1 s' rfl
    | inr z => cases h2 z rfl; exact K)) h
theorem vm_X11_stand {w : Wd} {l : Launch} {d m : Dt} {a1 a2 a3 : Int} {d' : Dt} {r : Int} (hp : PB m 1545 11) (h : fX11_stand d a1 a2 a3 = some (d', r)) : VM w l WF yX11_stand cX11_stand 8 (some .int) 6 144 0 0 d m [mA 1545, mI a1, mI a2, mI a3] (some (mI r)) d' m := by
  obtain ⟨x, h, K⟩ : ∃ x, fX11_stand d a1 a2 a3 = some x ∧ x = (d', r) := ⟨_, h, rfl⟩
  refine VM.of (L := [mA 1545, mI a1, mI a2, mI a3, mU, mU, mU, mU]) (by decide +kernel) rfl (Nat.le_of_ble_eq_true rfl) fun G F _ => v_fact fun _ hX _ _ => ?_
  unfold fX11_stand at h
  refine v_aload_n F dX11_stand_0 rfl rfl ?_
  refine v_iload_n F dX11_stand_1 rfl rfl ?_
  refine v_callVv (c := 11) F dX11_stand_2 cv_X11_480 rfl (PB.ob hp hX (Nat.le_of_ble_eq_true rfl)) (Nat.le_of_ble_eq_true rfl) rfl (vm_X11_isContest hp) rfl (rOk.of rfl) ?_
  refine v_if_eq F dX11_stand_5 rfl (fun hq1 => ?_) (fun hq1 => ?_)
  · rw [if_pos hq1] at h
    refine v_iconst F dX11_stand_16 ⟨by decide, by decide⟩ ?_
    cases h
    cases (show _ = (d', r) from K)
    exact v_iret F dX11_stand_17
  · rw [if_neg hq1] at h
    refine v_aload_n F dX11_stand_8 rfl rfl ?_
    refine v_iload_n F dX11_stand_9 rfl rfl ?_
    refine v_callVv (c := 11) F dX11_stand_10 cv_X11_110 rfl (PB.ob hp hX (Nat.le_of_ble_eq_true rfl)) (Nat.le_of_ble_eq_true rfl) rfl (vm_X11_isPerson hp) rfl (rOk.of rfl) ?_
    refine v_if_ne F dX11_stand_13 rfl (fun hq2 => ?_) (fun hq2 => ?_)
    · rw [if_neg hq2] at h
      refine v_iload_n F dX11_stand_18 rfl rfl ?_
      refine v_i2l F dX11_stand_19 ?_
      refine v_ldc2 (n := (-1)) F dX11_stand_20 q2492 rfl ⟨by decide, by decide⟩ ?_
      refine v_ldc2 (n := 7) F dX11_stand_23 q2778 rfl ⟨by decide, by decide⟩ ?_
      refine v_callSv F dX11_stand_26 cs_X11_13 rfl (vm_X11_in) rfl (rOk.of rfl) ?_
      refine v_if_ne F dX11_stand_29 rfl (fun hq3 => ?_) (fun hq3 => ?_)
      · rw [if_neg hq3] at h
        refine v_aload_n F dX11_stand_35 rfl rfl ?_
        obtain ⟨x4, hc5, h⟩ := b1_some h
        refine v_callVv (c := 11) F dX11_stand_36 cv_X11_572 rfl (PB.ob hp hX (Nat.le_of_ble_eq_true rfl)) (Nat.le_of_ble_eq_true rfl) rfl (vm_X11_isBehindStanding hp hc5) rfl (rOk.of rfl) ?_
        refine v_if_eq F dX11_stand_39 rfl (fun hq6 => ?_) (fun hq6 => ?_)
        · rw [if_pos hq6] at h
          refine v_iconst F dX11_stand_45 ⟨by decide, by decide⟩ ?_
          refine v_istore F dX11_stand_46 (Nat.le_of_ble_eq_true rfl) (L' := [mA 1545, mI a1, mI a2, mI a3, mI 0, mU, mU, mU]) rfl ?_
          refine v_iconst F dX11_stand_48 ⟨by decide, by decide⟩ ?_
          refine v_istore F dX11_stand_49 (Nat.le_of_ble_eq_true rfl) (L' := [mA 1545, mI a1, mI a2, mI a3, mI 0, mI 0, mU, mU]) rfl ?_
          refine v_iconst F dX11_stand_51 ⟨by decide, by decide⟩ ?_
          refine v_istore F dX11_stand_52 (Nat.le_of_ble_eq_true rfl) (L' := [mA 1545, mI a1, mI a2, mI a3, mI 0, mI 0, mI 0, mU]) rfl ?_
          exact fX11_stand_54_ok F hX hp h K
        · rw [if_neg hq6] at h
          refine v_bipush F dX11_stand_42 rfl ⟨by decide, by decide⟩ ?_
          cases h
          cases (show _ = (d', r) from K)
          exact v_iret F dX11_stand_44
      · rw [if_pos hq3] at h
        refine v_bipush F dX11_stand_32 rfl ⟨by decide, by decide⟩ ?_
        cases h
        cases (show _ = (d', r) from K)
        exact v_iret F dX11_stand_34
    · rw [if_pos hq2] at h
      refine v_iconst F dX11_stand_16 ⟨by decide, by decide⟩ ?_
      cases h
      cases (show _ = (d', r) from K)
      exact v_iret F dX11_stand_17
theorem vm_X0_isNomination {w : Wd} {l : Launch} {d m : Dt} {a1 : Int} (hp : PB m 1 0) : VM w l WF yX0_isNomination cX0_isNomination 2 (some .boolean) 1 22 0 0 d m [mA 1, mI a1] (some (mI (fX0_isNomination d a1))) d m := by
  obtain ⟨r, hr⟩ : ∃ r, fX0_isNomination d a1 = r := ⟨_, rfl⟩
  rw [hr]
  obtain ⟨x, h, K⟩ : ∃ x, fX0_isNomination d a1 = x ∧ x = r := ⟨_, hr, rfl⟩
  refine VM.of (L := [mA 1, mI a1]) (by decide +kernel) rfl (Nat.le_of_ble_eq_true rfl) fun G F _ => v_fact fun _ hX _ _ => ?_
  unfold fX0_isNomination at h
  refine v_iload_n F dX0_isNomination_0 rfl rfl ?_
  refine v_iconst F dX0_isNomination_1 ⟨by decide, by decide⟩ ?_
  refine v_aload_n F dX0_isNomination_2 rfl rfl ?_
  refine gf_X0_262 F dX0_isNomination_3 hp ?_
  refine v_iconst F dX0_isNomination_6 ⟨by decide, by decide⟩ ?_
  refine v_isub F dX0_isNomination_7 ?_
  refine v_callSv F dX0_isNomination_8 cs_X0_163 rfl (vm_X0_within) rfl (rOk.of rfl) ?_
  subst h
  cases (show _ = r from K)
  exact v_zret F (fX0_within_z) dX0_isNomination_11
theorem fX0_isNomination_z {d : Dt} {a1 : Int} : fX0_isNomination d a1 = 0 ∨ fX0_isNomination d a1 = 1 := by
  unfold fX0_isNomination
  repeat' (first | exact Or.inl rfl | exact Or.inr rfl | split | assumption | exact fX0_within_z)
theorem vm_X0_mayVote {w : Wd} {l : Launch} {d m : Dt} {a1 : Int} {d' : Dt} {r : Int} (hp : PB m 1 0) (h : fX0_mayVote d a1 = some (d', r)) : VM w l WF yX0_mayVote cX0_mayVote 2 (some .boolean) 7 163 0 0 d m [mA 1, mI a1] (some (mI r)) d' m := by
  obtain ⟨x, h, K⟩ : ∃ x, fX0_mayVote d a1 = some x ∧ x = (d', r) := ⟨_, h, rfl⟩
  refine VM.of (L := [mA 1, mI a1]) (by decide +kernel) rfl (Nat.le_of_ble_eq_true rfl) fun G F _ => v_fact fun _ hX _ _ => ?_
  unfold fX0_mayVote at h
  refine v_aload_n F dX0_mayVote_0 rfl rfl ?_
  obtain ⟨x1, ex1, h⟩ := lv_some h
  obtain ⟨hn3, h⟩ := ck_some h
  refine gf_X0_42 F dX0_mayVote_1 hp ex1 fun hr2 => ?_
  have x1p := hr2.resolve_left hn3
  refine v_aload_n F dX0_mayVote_4 rfl rfl ?_
  obtain ⟨x4, ex4, h⟩ := lv_some h
  obtain ⟨hn6, h⟩ := ck_some h
  refine gf_X0_42 F dX0_mayVote_5 hp ex4 fun hr5 => ?_
  have x4p := hr5.resolve_left hn6
  refine gf_X0_324 F dX0_mayVote_8 x4p (v := (x4 + 2)) rfl ?_
  refine v_aload_n F dX0_mayVote_11 rfl rfl ?_
  refine gf_X0_26 F dX0_mayVote_12 hp (v := 9) rfl ?_
  refine v_iload_n F dX0_mayVote_15 rfl rfl ?_
  obtain ⟨hi7, h⟩ := ck_some h
  obtain ⟨x8, ex8, h⟩ := lv_some h
  obtain ⟨hn10, h⟩ := ck_some h
  refine v_aaldN (t := 109) (c := 12) F dX0_mayVote_16 (ar_X0_4 hX hp) (Nat.le_of_ble_eq_true rfl) rfl rfl rfl rfl rfl hi7 ex8 fun hr9 => ?_
  have x8p := hr9.resolve_left hn10
  refine v_aload_n F dX0_mayVote_17 rfl rfl ?_
  refine gf_X0_20 F dX0_mayVote_18 hp (v := 3) rfl ?_
  obtain ⟨d11, x13, hc12, h⟩ := b2_some h
  refine v_callVv (c := 4) F dX0_mayVote_21 cv_X0_328 rfl (PB.ob x1p hX (Nat.le_of_ble_eq_true rfl)) (Nat.le_of_ble_eq_true rfl) rfl (vm_X4_may x1p (ob_X4_6 hX x4p) x8p (ob_X0_3 hX hp) hc12) rfl (rOk.of rfl) ?_
  obtain ⟨hb, h⟩ := ck_some h
  cases h
  cases (show _ = (d', r) from K)
  exact v_zret F hb dX0_mayVote_24
theorem fX0_sign_129_ok {w : Wd} {l : Launch} {G : Cx} {d m dd : Dt} {a1 a2 v3 s0 : Int} {d' : Dt} {r : Int} {x : (Dt × Int)} (F : Fx w G cX0_sign RX0 6 (some .int) { frames := 8, cells := 0, slots := 0, locals := 184 }) (hX : WF dd m) (hp : PB m 1 0) (hv3 : PB m v3 13) (h : fX0_sign_129 d a1 a2 v3 s0 = some x) (K : (fun q => q = (d', r)) x) : V w l WF G (QM w G WF (some (mI r)) d' m 0 0) d m 0 0 129 [mA 1, mI a1, mI a2, mA v3, mU, mU] [mI s0] := by
  unfold fX0_sign_129 at h
  refine v_istore F dX0_sign_129 (Nat.le_of_ble_eq_true rfl) (L' := [mA 1, mI a1, mI a2, mA v3, mU, mI s0]) rfl ?_
  refine v_iload F dX0_sign_131 rfl ?_
  refine v_if_eq F dX0_sign_133 rfl (fun hq17 => ?_) (fun hq17 => ?_)
  · rw [if_pos hq17] at h
    refine v_bipush F dX0_sign_165 rfl ⟨by decide, by decide⟩ ?_
    cases h
    cases (show _ = (d', r) from K)
    exact v_iret F dX0_sign_167
  · rw [if_neg hq17] at h
    refine v_aload_n F dX0_sign_136 rfl rfl ?_
    refine gf_X0_364 F dX0_sign_137 hv3 ?_
    refine v_iload_n F dX0_sign_140 rfl rfl ?_
    refine v_lshr F dX0_sign_141 ?_
    refine v_lconst1 F dX0_sign_142 ?_
    refine v_land F dX0_sign_143 ?_
    refine v_lconst1 F dX0_sign_144 ?_
    refine v_lcmp F dX0_sign_145 ?_
    refine v_if_eq F dX0_sign_146 rfl (fun hq18 => ?_) (fun hq18 => ?_)
    · rw [if_pos hq18] at h
      refine v_bipush F dX0_sign_165 rfl ⟨by decide, by decide⟩ ?_
      cases h
      cases (show _ = (d', r) from K)
      exact v_iret F dX0_sign_167
    · rw [if_neg hq18] at h
      refine v_aload_n F dX0_sign_149 rfl rfl ?_
      refine gf_X0_72 F dX0_sign_150 hp (v := 59) rfl ?_
      refine v_iload_n F dX0_sign_153 rfl rfl ?_
      obtain ⟨hi19, h⟩ := ck_some h
      refine v_iald F dX0_sign_154 (ar_X0_16 hX hp) hi19 ?_
      refine v_aload_n F dX0_sign_155 rfl rfl ?_
      obtain ⟨x20, ex20, h⟩ := lv_some h
      obtain ⟨hn22, h⟩ := ck_some h
      refine gf_X0_42 F dX0_sign_156 hp ex20 fun hr21 => ?_
      have x20p := hr21.resolve_left hn22
      refine gf_X0_368 F dX0_sign_159 x20p ?_
      refine v_icmp_ne F dX0_sign_162 rfl (fun hq23 => ?_) (fun hq23 => ?_)
      · rw [if_neg hq23] at h
        refine v_aload_n F dX0_sign_168 rfl rfl ?_
        refine v_dup_A F dX0_sign_169 ?_
        refine gf_X0_364 F dX0_sign_170 hv3 ?_
        refine v_lconst1 F dX0_sign_173 ?_
        refine v_iload_n F dX0_sign_174 rfl rfl ?_
        refine v_lshl F dX0_sign_175 ?_
        refine v_lor F dX0_sign_176 ?_
        obtain ⟨d24, ed24, h⟩ := sd_some h
        refine pf_X0_364 F dX0_sign_177 hv3 ?_
        refine v_nD ed24 ?_
        refine v_aload_n F dX0_sign_180 rfl rfl ?_
        refine v_dup_A F dX0_sign_181 ?_
        refine gf_X0_371 F dX0_sign_182 hv3 ?_
        refine v_iconst F dX0_sign_185 ⟨by decide, by decide⟩ ?_
        refine v_iadd F dX0_sign_186 ?_
        obtain ⟨d25, ed25, h⟩ := sd_some h
        refine pf_X0_371 F dX0_sign_187 hv3 ?_
        refine v_nD ed25 ?_
        refine v_aload_n F dX0_sign_190 rfl rfl ?_
        refine gf_X0_72 F dX0_sign_191 hp (v := 59) rfl ?_
        refine v_iload_n F dX0_sign_194 rfl rfl ?_
        refine v_dup2_IA F dX0_sign_195 ?_
        refine v_iald F dX0_sign_196 (ar_X0_16 hX hp) hi19 ?_
        refine v_iconst F dX0_sign_197 ⟨by decide, by decide⟩ ?_
        refine v_iadd F dX0_sign_198 ?_
        obtain ⟨d26, ed26, h⟩ := sd_some h
        refine v_iast F dX0_sign_199 (ar_X0_16 hX hp) hi19 ?_
        refine v_nD ed26 ?_
        refine v_aload_n F dX0_sign_200 rfl rfl ?_
        refine v_bipush F dX0_sign_201 rfl ⟨by decide, by decide⟩ ?_
        refine v_iload_n F dX0_sign_203 rfl rfl ?_
        refine v_iload_n F dX0_sign_204 rfl rfl ?_
        refine v_iconst F dX0_sign_205 ⟨by decide, by decide⟩ ?_
        refine v_iconst F dX0_sign_206 ⟨by decide, by decide⟩ ?_
        obtain ⟨d27, hc28, h⟩ := bd_some h
        refine v_callV0 (c := 0) F dX0_sign_207 cv_X0_173 rfl (PB.ob hp hX (Nat.le_of_ble_eq_true rfl)) (Nat.le_of_ble_eq_true rfl) rfl (vm_X0_write hp hc28) rfl (rOk.of rfl) ?_
        refine v_aload_n F dX0_sign_210 rfl rfl ?_
        refine gf_X0_371 F dX0_sign_211 hv3 ?_
        cases h
        cases (show _ = (d', r) from K)
        exact v_iret F dX0_sign_214
      · rw [if_pos hq23] at h
        refine v_bipush F dX0_sign_165 rfl ⟨by decide, by decide⟩ ?_
        cases h
        cases (show _ = (d', r) from K)
        exact v_iret F dX0_sign_167
theorem vm_X0_sign {w : Wd} {l : Launch} {d m : Dt} {a1 a2 : Int} {d' : Dt} {r : Int} (hp : PB m 1 0) (h : fX0_sign d a1 a2 = some (d', r)) : VM w l WF yX0_sign cX0_sign 6 (some .int) 8 184 0 0 d m [mA 1, mI a1, mI a2] (some (mI r)) d' m := by
  obtain ⟨x, h, K⟩ : ∃ x, fX0_sign d a1 a2 = some x ∧ x = (d', r) := ⟨_, h, rfl⟩
  refine VM.of (L := [mA 1, mI a1, mI a2, mU, mU, mU]) (by decide +kernel) rfl (Nat.le_of_ble_eq_true rfl) fun G F _ => v_fact fun _ hX _ _ => ?_
  unfold fX0_sign at h
  refine v_aload_n F dX0_sign_0 rfl rfl ?_
  refine v_iload_n F dX0_sign_1 rfl rfl ?_
  refine v_callVv (c := 0) F dX0_sign_2 cv_X0_349 rfl (PB.ob hp hX (Nat.le_of_ble_eq_true rfl)) (Nat.le_of_ble_eq_true rfl) rfl (vm_X0_isNomination hp) rfl (rOk.of rfl) ?_
  refine v_if_eq F dX0_sign_5 rfl (fun hq1 => ?_) (fun hq1 => ?_)
  · rw [if_pos hq1] at h
    refine v_iconst F dX0_sign_16 ⟨by decide, by decide⟩ ?_
    cases h
    cases (show _ = (d', r) from K)
    exact v_iret F dX0_sign_17
  · rw [if_neg hq1] at h
    refine v_aload_n F dX0_sign_8 rfl rfl ?_
    refine v_iload_n F dX0_sign_9 rfl rfl ?_
    refine v_callVv (c := 0) F dX0_sign_10 cv_X0_210 rfl (PB.ob hp hX (Nat.le_of_ble_eq_true rfl)) (Nat.le_of_ble_eq_true rfl) rfl (vm_X0_isPerson hp) rfl (rOk.of rfl) ?_
    refine v_if_ne F dX0_sign_13 rfl (fun hq2 => ?_) (fun hq2 => ?_)
    · rw [if_neg hq2] at h
      refine v_aload_n F dX0_sign_18 rfl rfl ?_
      refine gf_X0_167 F dX0_sign_19 hp ?_
      refine v_aload_n F dX0_sign_22 rfl rfl ?_
      obtain ⟨x3, ex3, h⟩ := lv_some h
      obtain ⟨hn5, h⟩ := ck_some h
      refine gf_X0_42 F dX0_sign_23 hp ex3 fun hr4 => ?_
      have x3p := hr4.resolve_left hn5
      refine gf_X0_293 F dX0_sign_26 x3p (v := (x3 + 1)) rfl ?_
      refine v_iconst F dX0_sign_29 ⟨by decide, by decide⟩ ?_
      refine v_iald F dX0_sign_30 (ar_X4_0 hX x3p) ⟨by decide, by decide⟩ ?_
      refine v_icmp_gt F dX0_sign_31 rfl (fun hq6 => ?_) (fun hq6 => ?_)
      · rw [if_pos hq6] at h
        refine v_bipush F dX0_sign_41 rfl ⟨by decide, by decide⟩ ?_
        cases h
        cases (show _ = (d', r) from K)
        exact v_iret F dX0_sign_43
      · rw [if_neg hq6] at h
        refine v_aload_n F dX0_sign_34 rfl rfl ?_
        refine gf_X0_265 F dX0_sign_35 hp ?_
        refine v_if_eq F dX0_sign_38 rfl (fun hq7 => ?_) (fun hq7 => ?_)
        · rw [if_pos hq7] at h
          refine v_aload_n F dX0_sign_44 rfl rfl ?_
          refine gf_X0_68 F dX0_sign_45 hp (v := 58) rfl ?_
          refine v_iload_n F dX0_sign_48 rfl rfl ?_
          obtain ⟨hi8, h⟩ := ck_some h
          obtain ⟨x9, ex9, h⟩ := lv_some h
          obtain ⟨hn11, h⟩ := ck_some h
          refine v_aaldN (t := 111) (c := 13) F dX0_sign_49 (ar_X0_14 hX hp) (Nat.le_of_ble_eq_true rfl) rfl rfl rfl rfl rfl hi8 ex9 fun hr10 => ?_
          have x9p := hr10.resolve_left hn11
          refine v_astore_n F dX0_sign_50 rfl (Nat.le_of_ble_eq_true rfl) (L' := [mA 1, mI a1, mI a2, mA x9, mU, mU]) rfl ?_
          refine v_aload_n F dX0_sign_51 rfl rfl ?_
          refine gf_X0_26 F dX0_sign_52 hp (v := 9) rfl ?_
          refine v_iload_n F dX0_sign_55 rfl rfl ?_
          obtain ⟨hi12, h⟩ := ck_some h
          obtain ⟨x13, ex13, h⟩ := lv_some h
          obtain ⟨hn15, h⟩ := ck_some h
          refine v_aaldN (t := 109) (c := 12) F dX0_sign_56 (ar_X0_4 hX hp) (Nat.le_of_ble_eq_true rfl) rfl rfl rfl rfl rfl hi12 ex13 fun hr14 => ?_
          have x13p := hr14.resolve_left hn15
          refine v_astore F dX0_sign_57 (Nat.le_of_ble_eq_true rfl) (L' := [mA 1, mI a1, mI a2, mA x9, mA x13, mU]) rfl ?_
          refine v_aload_n F dX0_sign_59 rfl rfl ?_
          refine gf_X0_352 F dX0_sign_60 x9p ?_
          refine v_if_ne F dX0_sign_63 rfl (fun hq16 => ?_) (fun hq16 => ?_)
          · rw [if_neg hq16] at h
            refine v_iconst F dX0_sign_128 ⟨by decide, by decide⟩ ?_
            refine v_fgt (L' := [mA 1, mI a1, mI a2, mA x9, mU, mU]) ⟨Or.inl rfl, Or.inl rfl, Or.inl rfl, Or.inl rfl, Or.inr rfl, Or.inl rfl, trivial⟩ ?_
            exact fX0_sign_129_ok F hX hp x9p h K
          · rw [if_pos hq16] at h
            refine v_aload F dX0_sign_66 rfl ?_
            refine v_aload_n F dX0_sign_68 rfl rfl ?_
            refine gf_X0_167 F dX0_sign_69 hp ?_
            refine v_callVv (c := 12) F dX0_sign_72 cv_X0_339 rfl (PB.ob x13p hX (Nat.le_of_ble_eq_true rfl)) (Nat.le_of_ble_eq_true rfl) rfl (vm_X13_isAlive x13p) rfl (rOk.of rfl) ?_
            refine v_if_eq F dX0_sign_75 rfl (fun hq29 => ?_) (fun hq29 => ?_)
            · rw [if_pos hq29] at h
              refine v_iconst F dX0_sign_128 ⟨by decide, by decide⟩ ?_
              refine v_fgt (L' := [mA 1, mI a1, mI a2, mA x9, mU, mU]) ⟨Or.inl rfl, Or.inl rfl, Or.inl rfl, Or.inl rfl, Or.inr rfl, Or.inl rfl, trivial⟩ ?_
              exact fX0_sign_129_ok F hX hp x9p h K
            · rw [if_neg hq29] at h
              refine v_aload_n F dX0_sign_78 rfl rfl ?_
              refine v_iload_n F dX0_sign_79 rfl rfl ?_
              obtain ⟨d30, x32, hc31, h⟩ := b2_some h
              refine v_callVv (c := 0) F dX0_sign_80 cv_X0_355 rfl (PB.ob hp hX (Nat.le_of_ble_eq_true rfl)) (Nat.le_of_ble_eq_true rfl) rfl (vm_X0_mayVote hp hc31) rfl (rOk.of rfl) ?_
              refine v_if_eq F dX0_sign_83 rfl (fun hq33 => ?_) (fun hq33 => ?_)
              · rw [if_pos hq33] at h
                refine v_iconst F dX0_sign_128 ⟨by decide, by decide⟩ ?_
                refine v_fgt (L' := [mA 1, mI a1, mI a2, mA x9, mU, mU]) ⟨Or.inl rfl, Or.inl rfl, Or.inl rfl, Or.inl rfl, Or.inr rfl, Or.inl rfl, trivial⟩ ?_
                exact fX0_sign_129_ok F hX hp x9p h K
              · rw [if_neg hq33] at h
                refine v_aload_n F dX0_sign_86 rfl rfl ?_
                refine gf_X0_20 F dX0_sign_87 hp (v := 3) rfl ?_
                refine v_aload_n F dX0_sign_90 rfl rfl ?_
                obtain ⟨x34, ex34, h⟩ := lv_some h
                obtain ⟨hn36, h⟩ := ck_some h
                refine gf_X0_42 F dX0_sign_91 hp ex34 fun hr35 => ?_
                have x34p := hr35.resolve_left hn36
                refine gf_X0_299 F dX0_sign_94 x34p (v := (x34 + 11)) rfl ?_
                refine v_aload_n F dX0_sign_97 rfl rfl ?_
                refine gf_X0_358 F dX0_sign_98 x9p ?_
                obtain ⟨x37, ex37, h⟩ := lv_some h
                refine v_nI ex37 ?_
                obtain ⟨hi38, h⟩ := ck_some h
                refine v_aaldF (c := 4) (k := 13) F dX0_sign_101 x34p (Nat.le_of_ble_eq_true rfl) (Nat.le_of_ble_eq_true rfl) (by decide) (by decide) rfl (ar_X4_13 hX x34p) (Nat.le_of_ble_eq_true rfl) rfl rfl rfl rfl hi38 (v := ((x34 + 13) + x37)) (by show x34 + 13 + 1 * x37 = _; omega) ?_
                refine gf_X0_303 F dX0_sign_102 (ae_X4_13 (i := x37) hX x34p hi38 (v := ((x34 + 13) + x37)) (by omega)) ?_
                refine v_aload F dX0_sign_105 rfl ?_
                refine v_aload_n F dX0_sign_107 rfl rfl ?_
                refine gf_X0_167 F dX0_sign_108 hp ?_
                obtain ⟨x39, hc40, h⟩ := b1_some h
                refine v_callVv (c := 12) F dX0_sign_111 cv_X0_247 rfl (PB.ob x13p hX (Nat.le_of_ble_eq_true rfl)) (Nat.le_of_ble_eq_true rfl) rfl (vm_X13_address x13p hc40) rfl (rOk.of rfl) ?_
                refine v_aload_n F dX0_sign_114 rfl rfl ?_
                refine gf_X0_167 F dX0_sign_115 hp ?_
                obtain ⟨x41, hc42, h⟩ := b1_some h
                refine v_callVv (c := 1) F dX0_sign_118 cv_X0_361 rfl (PB.ob (ob_X0_3 hX hp) hX (Nat.le_of_ble_eq_true rfl)) (Nat.le_of_ble_eq_true rfl) rfl (vm_X1_isIn (ob_X0_3 hX hp) hc42) rfl (rOk.of rfl) ?_
                refine v_if_eq F dX0_sign_121 rfl (fun hq43 => ?_) (fun hq43 => ?_)
                · rw [if_pos hq43] at h
                  refine v_iconst F dX0_sign_128 ⟨by decide, by decide⟩ ?_
                  refine v_fgt (L' := [mA 1, mI a1, mI a2, mA x9, mU, mU]) ⟨Or.inl rfl, Or.inl rfl, Or.inl rfl, Or.inl rfl, Or.inr rfl, Or.inl rfl, trivial⟩ ?_
                  exact fX0_sign_129_ok F hX hp x9p h K
                · rw [if_neg hq43] at h
                  refine v_iconst F dX0_sign_124 ⟨by decide, by decide⟩ ?_
                  refine v_goto F dX0_sign_125 rfl ?_
                  refine v_fgt (L' := [mA 1, mI a1, mI a2, mA x9, mU, mU]) ⟨Or.inl rfl, Or.inl rfl, Or.inl rfl, Or.inl rfl, Or.inr rfl, Or.inl rfl, trivial⟩ ?_
                  exact fX0_sign_129_ok F hX hp x9p h K
        · rw [if_neg hq7] at h
          refine v_bipush F dX0_sign_41 rfl ⟨by decide, by decide⟩ ?_
          cases h
          cases (show _ = (d', r) from K)
          exact v_iret F dX0_sign_43
    · rw [if_pos hq2] at h
      refine v_iconst F dX0_sign_16 ⟨by decide, by decide⟩ ?_
      cases h
      cases (show _ = (d', r) from K)
      exact v_iret F dX0_sign_17
def fX11_sign_41P (w : Wd) (l : Launch) (G : Cx) (Q : State → Prop) (m : Dt) (d : Dt) (a1 a2 : Int) (s : Int × Int) : Prop := V w l WF G Q d m 0 0 41 [mA 1545, mI a1, mI a2, mI (s.1), mI (s.2)] []
theorem fX11_sign_158_ok {w : Wd} {l : Launch} {G : Cx} {d m dd : Dt} {a1 a2 v3 s0 : Int} {d' : Dt} {r : Int} {x : (Dt × Int)} (F : Fx w G cX11_sign RX11 5 (some .int) { frames := 6, cells := 0, slots := 0, locals := 144 }) (hX : WF dd m) (hp : PB m 1545 11) (h : fX11_sign_158 d a1 a2 v3 s0 = some x) (K : (fun q => q = (d', r)) x) : V w l WF G (QM w G WF (some (mI r)) d' m 0 0) d m 0 0 158 [mA 1545, mI a1, mI a2, mI v3, mU] [mI s0] := by
  unfold fX11_sign_158 at h
  refine v_istore F dX11_sign_158 (Nat.le_of_ble_eq_true rfl) (L' := [mA 1545, mI a1, mI a2, mI v3, mI s0]) rfl ?_
  refine v_iload F dX11_sign_160 rfl ?_
  refine v_if_eq F dX11_sign_162 rfl (fun hq10 => ?_) (fun hq10 => ?_)
  · rw [if_pos hq10] at h
    refine v_bipush F dX11_sign_189 rfl ⟨by decide, by decide⟩ ?_
    cases h
    cases (show _ = (d', r) from K)
    exact v_iret F dX11_sign_191
  · rw [if_neg hq10] at h
    refine v_aload_n F dX11_sign_165 rfl rfl ?_
    refine gf_X11_596 F dX11_sign_166 hp (v := 1588) rfl ?_
    refine v_bipush F dX11_sign_169 rfl ⟨by decide, by decide⟩ ?_
    refine v_iload_n F dX11_sign_171 rfl rfl ?_
    refine v_imul F dX11_sign_172 ?_
    refine v_iload_n F dX11_sign_173 rfl rfl ?_
    refine v_iadd F dX11_sign_174 ?_
    obtain ⟨x11, ex11, h⟩ := lv_some h
    refine v_nI ex11 ?_
    obtain ⟨hi12, h⟩ := ck_some h
    refine v_zald F dX11_sign_175 (ar_X11_63 hX hp) hi12 ?_
    refine v_if_ne F dX11_sign_176 rfl (fun hq13 => ?_) (fun hq13 => ?_)
    · rw [if_neg hq13] at h
      refine v_bipush F dX11_sign_189 rfl ⟨by decide, by decide⟩ ?_
      cases h
      cases (show _ = (d', r) from K)
      exact v_iret F dX11_sign_191
    · rw [if_pos hq13] at h
      refine v_iload_n F dX11_sign_179 rfl rfl ?_
      refine v_aload_n F dX11_sign_180 rfl rfl ?_
      refine v_bipush F dX11_sign_181 rfl ⟨by decide, by decide⟩ ?_
      obtain ⟨x14, hc15, h⟩ := b1_some h
      refine v_callVv (c := 11) F dX11_sign_183 cv_X11_466 rfl (PB.ob hp hX (Nat.le_of_ble_eq_true rfl)) (Nat.le_of_ble_eq_true rfl) rfl (vm_X11_lawIs hp hc15) rfl (rOk.of rfl) ?_
      refine v_icmp_lt F dX11_sign_186 rfl (fun hq16 => ?_) (fun hq16 => ?_)
      · rw [if_pos hq16] at h
        refine v_aload_n F dX11_sign_192 rfl rfl ?_
        refine gf_X11_596 F dX11_sign_193 hp (v := 1588) rfl ?_
        refine v_bipush F dX11_sign_196 rfl ⟨by decide, by decide⟩ ?_
        refine v_iload_n F dX11_sign_198 rfl rfl ?_
        refine v_imul F dX11_sign_199 ?_
        refine v_iload_n F dX11_sign_200 rfl rfl ?_
        refine v_iadd F dX11_sign_201 ?_
        refine v_iconst F dX11_sign_202 ⟨by decide, by decide⟩ ?_
        obtain ⟨x17, ex17, h⟩ := lv_some h
        refine v_n2 ex17 ?_
        obtain ⟨hi18, h⟩ := ck_some h
        obtain ⟨d19, ed19, h⟩ := sd_some h
        refine v_zast F dX11_sign_203 (ar_X11_63 hX hp) hi18 ?_
        refine v_nD ed19 ?_
        refine v_aload_n F dX11_sign_204 rfl rfl ?_
        refine gf_X11_587 F dX11_sign_205 hp (v := 1585) rfl ?_
        refine v_iload_n F dX11_sign_208 rfl rfl ?_
        refine v_dup2_IA F dX11_sign_209 ?_
        obtain ⟨hi20, h⟩ := ck_some h
        refine v_iald F dX11_sign_210 (ar_X11_60 hX hp) hi20 ?_
        refine v_iconst F dX11_sign_211 ⟨by decide, by decide⟩ ?_
        refine v_iadd F dX11_sign_212 ?_
        obtain ⟨d21, ed21, h⟩ := sd_some h
        refine v_iast F dX11_sign_213 (ar_X11_60 hX hp) hi20 ?_
        refine v_nD ed21 ?_
        refine v_aload_n F dX11_sign_214 rfl rfl ?_
        refine v_bipush F dX11_sign_215 rfl ⟨by decide, by decide⟩ ?_
        refine v_iload_n F dX11_sign_217 rfl rfl ?_
        refine v_iload_n F dX11_sign_218 rfl rfl ?_
        refine v_iconst F dX11_sign_219 ⟨by decide, by decide⟩ ?_
        refine v_iconst F dX11_sign_220 ⟨by decide, by decide⟩ ?_
        obtain ⟨d22, hc23, h⟩ := bd_some h
        refine v_callV0 (c := 11) F dX11_sign_221 cv_X11_22 rfl (PB.ob hp hX (Nat.le_of_ble_eq_true rfl)) (Nat.le_of_ble_eq_true rfl) rfl (vm_X11_write hp hc23) rfl (rOk.of rfl) ?_
        refine v_aload_n F dX11_sign_224 rfl rfl ?_
        refine gf_X11_587 F dX11_sign_225 hp (v := 1585) rfl ?_
        refine v_iload_n F dX11_sign_228 rfl rfl ?_
        refine v_iald F dX11_sign_229 (ar_X11_60 hX hp) hi20 ?_
        cases h
        cases (show _ = (d', r) from K)
        exact v_iret F dX11_sign_230
      · rw [if_neg hq16] at h
        refine v_bipush F dX11_sign_189 rfl ⟨by decide, by decide⟩ ?_
        cases h
        cases (show _ = (d', r) from K)
        exact v_iret F dX11_sign_191
theorem fX11_sign_115_ok {w : Wd} {l : Launch} {G : Cx} {d m dd : Dt} {a1 a2 v3 s0 : Int} {d' : Dt} {r : Int} {x : (Dt × Int)} (F : Fx w G cX11_sign RX11 5 (some .int) { frames := 6, cells := 0, slots := 0, locals := 144 }) (hX : WF dd m) (hp : PB m 1545 11) (h : fX11_sign_115 d a1 a2 v3 s0 = some x) (K : (fun q => q = (d', r)) x) : V w l WF G (QM w G WF (some (mI r)) d' m 0 0) d m 0 0 115 [mA 1545, mI a1, mI a2, mI v3, mU] [mI s0] := by
  unfold fX11_sign_115 at h
  refine v_istore F dX11_sign_115 (Nat.le_of_ble_eq_true rfl) (L' := [mA 1545, mI a1, mI a2, mI v3, mI s0]) rfl ?_
  refine v_iload F dX11_sign_117 rfl ?_
  refine v_if_eq F dX11_sign_119 rfl (fun hq9 => ?_) (fun hq9 => ?_)
  · rw [if_pos hq9] at h
    refine v_iconst F dX11_sign_157 ⟨by decide, by decide⟩ ?_
    refine v_fgt (L' := [mA 1545, mI a1, mI a2, mI v3, mU]) ⟨Or.inl rfl, Or.inl rfl, Or.inl rfl, Or.inl rfl, Or.inr rfl, trivial⟩ ?_
    exact fX11_sign_158_ok F hX hp h K
  · rw [if_neg hq9] at h
    refine v_aload_n F dX11_sign_122 rfl rfl ?_
    refine v_aload_n F dX11_sign_123 rfl rfl ?_
    refine v_aload_n F dX11_sign_124 rfl rfl ?_
    refine gf_X11_575 F dX11_sign_125 hp (v := 1582) rfl ?_
    refine v_iload_n F dX11_sign_128 rfl rfl ?_
    obtain ⟨hi24, h⟩ := ck_some h
    refine v_iald F dX11_sign_129 (ar_X11_57 hX hp) hi24 ?_
    refine v_iconst F dX11_sign_130 ⟨by decide, by decide⟩ ?_
    obtain ⟨x25, hc26, h⟩ := b1_some h
    refine v_callVv (c := 11) F dX11_sign_131 cv_X11_485 rfl (PB.ob hp hX (Nat.le_of_ble_eq_true rfl)) (Nat.le_of_ble_eq_true rfl) rfl (vm_X11_contestIs hp hc26) rfl (rOk.of rfl) ?_
    refine v_aload_n F dX11_sign_134 rfl rfl ?_
    refine v_iload_n F dX11_sign_135 rfl rfl ?_
    refine v_aload_n F dX11_sign_136 rfl rfl ?_
    refine gf_X11_17 F dX11_sign_137 hp ?_
    obtain ⟨x27, hc28, h⟩ := b1_some h
    refine v_callVv (c := 11) F dX11_sign_140 cv_X11_151 rfl (PB.ob hp hX (Nat.le_of_ble_eq_true rfl)) (Nat.le_of_ble_eq_true rfl) rfl (vm_X11_addressOn hp hc28) rfl (rOk.of rfl) ?_
    refine v_aload_n F dX11_sign_143 rfl rfl ?_
    refine gf_X11_17 F dX11_sign_144 hp ?_
    obtain ⟨x29, hc30, h⟩ := b1_some h
    refine v_callVv (c := 11) F dX11_sign_147 cv_X11_494 rfl (PB.ob hp hX (Nat.le_of_ble_eq_true rfl)) (Nat.le_of_ble_eq_true rfl) rfl (vm_X11_isIn hp hc30) rfl (rOk.of rfl) ?_
    refine v_if_eq F dX11_sign_150 rfl (fun hq31 => ?_) (fun hq31 => ?_)
    · rw [if_pos hq31] at h
      refine v_iconst F dX11_sign_157 ⟨by decide, by decide⟩ ?_
      refine v_fgt (L' := [mA 1545, mI a1, mI a2, mI v3, mU]) ⟨Or.inl rfl, Or.inl rfl, Or.inl rfl, Or.inl rfl, Or.inr rfl, trivial⟩ ?_
      exact fX11_sign_158_ok F hX hp h K
    · rw [if_neg hq31] at h
      refine v_iconst F dX11_sign_153 ⟨by decide, by decide⟩ ?_
      refine v_goto F dX11_sign_154 rfl ?_
      refine v_fgt (L' := [mA 1545, mI a1, mI a2, mI v3, mU]) ⟨Or.inl rfl, Or.inl rfl, Or.inl rfl, Or.inl rfl, Or.inr rfl, trivial⟩ ?_
      exact fX11_sign_158_ok F hX hp h K
theorem fX11_sign_71_ok {w : Wd} {l : Launch} {G : Cx} {d m dd : Dt} {a1 a2 v4 s0 s1 : Int} {d' : Dt} {r : Int} {x : ((Int × Int) ⊕ (Dt × Int))} (F : Fx w G cX11_sign RX11 5 (some .int) { frames := 6, cells := 0, slots := 0, locals := 144 }) (hX : WF dd m) (hp : PB m 1545 11) (h : fX11_sign_71 d a1 a2 v4 s0 s1 = some x) (K : (Sum.elim (fX11_sign_41P w l G (QM w G WF (some (mI r)) d' m 0 0) m d a1 a2) (fun q => q = (d', r))) x) : V w l WF G (QM w G WF (some (mI r)) d' m 0 0) d m 0 0 71 [mA 1545, mI a1, mI a2, mU, mI v4] [mI s1, mI s0] := by
  unfold fX11_sign_71 at h
  refine v_iadd F dX11_sign_71 ?_
  obtain ⟨x42, ex42, h⟩ := lv_some h
  refine v_nI ex42 ?_
  refine v_istore_n F dX11_sign_72 rfl (Nat.le_of_ble_eq_true rfl) (L' := [mA 1545, mI a1, mI a2, mI x42, mI v4]) rfl ?_
  obtain ⟨x43, ex43, h⟩ := lv_some h
  refine v_iincN F dX11_sign_73 (Nat.le_of_ble_eq_true rfl) rfl ex43 (L' := [mA 1545, mI a1, mI a2, mI x42, mI x43]) rfl ?_
  refine v_goto F dX11_sign_76 rfl ?_
  cases h
  exact K
theorem fX11_sign_41f_ok {w : Wd} {l : Launch} {G : Cx} {d m dd : Dt} {a1 a2 : Int} {d' : Dt} {r : Int} {s : Int × Int} {x : ((Int × Int) ⊕ (Dt × Int))} (F : Fx w G cX11_sign RX11 5 (some .int) { frames := 6, cells := 0, slots := 0, locals := 144 }) (hX : WF dd m) (hp : PB m 1545 11) (h : fX11_sign_41f d a1 a2 s = some x) (K : (Sum.elim (fX11_sign_41P w l G (QM w G WF (some (mI r)) d' m 0 0) m d a1 a2) (fun q => q = (d', r))) x) : V w l WF G (QM w G WF (some (mI r)) d' m 0 0) d m 0 0 41 [mA 1545, mI a1, mI a2, mI (s.1), mI (s.2)] [] := by
  obtain ⟨v3, v4⟩ := s
  unfold fX11_sign_41f at h
  dsimp only at h
  refine v_iload F dX11_sign_41 rfl ?_
  refine v_aload_n F dX11_sign_43 rfl rfl ?_
  refine gf_X11_528 F dX11_sign_44 hp ?_
  refine v_icmp_ge F dX11_sign_47 rfl (fun hq6 => ?_) (fun hq6 => ?_)
  · rw [if_pos hq6] at h
    obtain ⟨z, hu, ez⟩ := up_some h
    clear h
    subst ez
    have h := hu
    clear hu
    refine v_aload_n F dX11_sign_79 rfl rfl ?_
    refine gf_X11_590 F dX11_sign_80 hp (v := 1586) rfl ?_
    refine v_iload_n F dX11_sign_83 rfl rfl ?_
    obtain ⟨hi7, h⟩ := ck_some h
    refine v_iald F dX11_sign_84 (ar_X11_61 hX hp) hi7 ?_
    refine v_iconst F dX11_sign_85 ⟨by decide, by decide⟩ ?_
    refine v_icmp_eq F dX11_sign_86 rfl (fun hq8 => ?_) (fun hq8 => ?_)
    · rw [if_pos hq8] at h
      refine v_iconst F dX11_sign_114 ⟨by decide, by decide⟩ ?_
      refine v_fgt (L' := [mA 1545, mI a1, mI a2, mI v3, mU]) ⟨Or.inl rfl, Or.inl rfl, Or.inl rfl, Or.inl rfl, Or.inr rfl, trivial⟩ ?_
      exact fX11_sign_115_ok F hX hp h K
    · rw [if_neg hq8] at h
      refine v_aload_n F dX11_sign_89 rfl rfl ?_
      refine v_iload_n F dX11_sign_90 rfl rfl ?_
      refine v_iconst F dX11_sign_91 ⟨by decide, by decide⟩ ?_
      obtain ⟨d32, x34, hc33, h⟩ := b2_some h
      refine v_callVv (c := 11) F dX11_sign_92 cv_X11_524 rfl (PB.ob hp hX (Nat.le_of_ble_eq_true rfl)) (Nat.le_of_ble_eq_true rfl) rfl (vm_X11_lets hp hc33) rfl (rOk.of rfl) ?_
      refine v_if_eq F dX11_sign_95 rfl (fun hq35 => ?_) (fun hq35 => ?_)
      · rw [if_pos hq35] at h
        refine v_iconst F dX11_sign_114 ⟨by decide, by decide⟩ ?_
        refine v_fgt (L' := [mA 1545, mI a1, mI a2, mI v3, mU]) ⟨Or.inl rfl, Or.inl rfl, Or.inl rfl, Or.inl rfl, Or.inr rfl, trivial⟩ ?_
        exact fX11_sign_115_ok F hX hp h K
      · rw [if_neg hq35] at h
        refine v_aload_n F dX11_sign_98 rfl rfl ?_
        refine v_iload_n F dX11_sign_99 rfl rfl ?_
        refine v_aload_n F dX11_sign_100 rfl rfl ?_
        refine gf_X11_17 F dX11_sign_101 hp ?_
        obtain ⟨x36, hc37, h⟩ := b1_some h
        refine v_callVv (c := 11) F dX11_sign_104 cv_X11_581 rfl (PB.ob hp hX (Nat.le_of_ble_eq_true rfl)) (Nat.le_of_ble_eq_true rfl) rfl (vm_X11_isAlive hp hc37) rfl (rOk.of rfl) ?_
        refine v_if_eq F dX11_sign_107 rfl (fun hq38 => ?_) (fun hq38 => ?_)
        · rw [if_pos hq38] at h
          refine v_iconst F dX11_sign_114 ⟨by decide, by decide⟩ ?_
          refine v_fgt (L' := [mA 1545, mI a1, mI a2, mI v3, mU]) ⟨Or.inl rfl, Or.inl rfl, Or.inl rfl, Or.inl rfl, Or.inr rfl, trivial⟩ ?_
          exact fX11_sign_115_ok F hX hp h K
        · rw [if_neg hq38] at h
          refine v_iconst F dX11_sign_110 ⟨by decide, by decide⟩ ?_
          refine v_goto F dX11_sign_111 rfl ?_
          refine v_fgt (L' := [mA 1545, mI a1, mI a2, mI v3, mU]) ⟨Or.inl rfl, Or.inl rfl, Or.inl rfl, Or.inl rfl, Or.inr rfl, trivial⟩ ?_
          exact fX11_sign_115_ok F hX hp h K
  · rw [if_neg hq6] at h
    refine v_iload_n F dX11_sign_50 rfl rfl ?_
    refine v_aload_n F dX11_sign_51 rfl rfl ?_
    refine gf_X11_596 F dX11_sign_52 hp (v := 1588) rfl ?_
    refine v_bipush F dX11_sign_55 rfl ⟨by decide, by decide⟩ ?_
    refine v_iload F dX11_sign_57 rfl ?_
    refine v_imul F dX11_sign_59 ?_
    refine v_iload_n F dX11_sign_60 rfl rfl ?_
    refine v_iadd F dX11_sign_61 ?_
    obtain ⟨x39, ex39, h⟩ := lv_some h
    refine v_nI ex39 ?_
    obtain ⟨hi40, h⟩ := ck_some h
    refine v_zald F dX11_sign_62 (ar_X11_63 hX hp) hi40 ?_
    refine v_if_eq F dX11_sign_63 rfl (fun hq41 => ?_) (fun hq41 => ?_)
    · rw [if_pos hq41] at h
      refine v_iconst F dX11_sign_70 ⟨by decide, by decide⟩ ?_
      refine v_fgt (L' := [mA 1545, mI a1, mI a2, mU, mI v4]) ⟨Or.inl rfl, Or.inl rfl, Or.inl rfl, Or.inr rfl, Or.inl rfl, trivial⟩ ?_
      exact fX11_sign_71_ok F hX hp h K
    · rw [if_neg hq41] at h
      refine v_iconst F dX11_sign_66 ⟨by decide, by decide⟩ ?_
      refine v_goto F dX11_sign_67 rfl ?_
      refine v_fgt (L' := [mA 1545, mI a1, mI a2, mU, mI v4]) ⟨Or.inl rfl, Or.inl rfl, Or.inl rfl, Or.inr rfl, Or.inl rfl, trivial⟩ ?_
      exact fX11_sign_71_ok F hX hp h K
theorem fX11_sign_41_ok {w : Wd} {l : Launch} {G : Cx} {d m dd : Dt} {a1 a2 v3 v4 : Int} {d' : Dt} {r : Int} {x : (Dt × Int)} (F : Fx w G cX11_sign RX11 5 (some .int) { frames := 6, cells := 0, slots := 0, locals := 144 }) (hX : WF dd m) (hp : PB m 1545 11) (h : fX11_sign_41 d a1 a2 v3 v4 = some x) (K : (fun q => q = (d', r)) x) : V w l WF G (QM w G WF (some (mI r)) d' m 0 0) d m 0 0 41 [mA 1545, mI a1, mI a2, mI v3, mI v4] [] := by
  unfold fX11_sign_41 at h
  exact loop_ok (P := fX11_sign_41P w l G (QM w G WF (some (mI r)) d' m 0 0) m d a1 a2) (fun s x hx h1 h2 => fX11_sign_41f_ok F hX hp hx (by
    cases x with
    | inl s' => exact h1 s' rfl
    | inr z => cases h2 z rfl; exact K)) h
theorem vm_X11_sign {w : Wd} {l : Launch} {d m : Dt} {a1 a2 : Int} {d' : Dt} {r : Int} (hp : PB m 1545 11) (h : fX11_sign d a1 a2 = some (d', r)) : VM w l WF yX11_sign cX11_sign 5 (some .int) 6 144 0 0 d m [mA 1545, mI a1, mI a2] (some (mI r)) d' m := by
  obtain ⟨x, h, K⟩ : ∃ x, fX11_sign d a1 a2 = some x ∧ x = (d', r) := ⟨_, h, rfl⟩
  refine VM.of (L := [mA 1545, mI a1, mI a2, mU, mU]) (by decide +kernel) rfl (Nat.le_of_ble_eq_true rfl) fun G F _ => v_fact fun _ hX _ _ => ?_
  unfold fX11_sign at h
  refine v_iload_n F dX11_sign_0 rfl rfl ?_
  refine v_i2l F dX11_sign_1 ?_
  refine v_lconst0 F dX11_sign_2 ?_
  refine v_aload_n F dX11_sign_3 rfl rfl ?_
  refine gf_X11_528 F dX11_sign_4 hp ?_
  refine v_iconst F dX11_sign_7 ⟨by decide, by decide⟩ ?_
  refine v_isub F dX11_sign_8 ?_
  refine v_i2l F dX11_sign_9 ?_
  refine v_callSv F dX11_sign_10 cs_X11_13 rfl (vm_X11_in) rfl (rOk.of rfl) ?_
  refine v_if_eq F dX11_sign_13 rfl (fun hq1 => ?_) (fun hq1 => ?_)
  · rw [if_pos hq1] at h
    refine v_iconst F dX11_sign_24 ⟨by decide, by decide⟩ ?_
    cases h
    cases (show _ = (d', r) from K)
    exact v_iret F dX11_sign_25
  · rw [if_neg hq1] at h
    refine v_aload_n F dX11_sign_16 rfl rfl ?_
    refine v_iload_n F dX11_sign_17 rfl rfl ?_
    refine v_callVv (c := 11) F dX11_sign_18 cv_X11_110 rfl (PB.ob hp hX (Nat.le_of_ble_eq_true rfl)) (Nat.le_of_ble_eq_true rfl) rfl (vm_X11_isPerson hp) rfl (rOk.of rfl) ?_
    refine v_if_ne F dX11_sign_21 rfl (fun hq2 => ?_) (fun hq2 => ?_)
    · rw [if_neg hq2] at h
      refine v_aload_n F dX11_sign_26 rfl rfl ?_
      obtain ⟨x3, hc4, h⟩ := b1_some h
      refine v_callVv (c := 11) F dX11_sign_27 cv_X11_572 rfl (PB.ob hp hX (Nat.le_of_ble_eq_true rfl)) (Nat.le_of_ble_eq_true rfl) rfl (vm_X11_isBehindStanding hp hc4) rfl (rOk.of rfl) ?_
      refine v_if_eq F dX11_sign_30 rfl (fun hq5 => ?_) (fun hq5 => ?_)
      · rw [if_pos hq5] at h
        refine v_iconst F dX11_sign_36 ⟨by decide, by decide⟩ ?_
        refine v_istore_n F dX11_sign_37 rfl (Nat.le_of_ble_eq_true rfl) (L' := [mA 1545, mI a1, mI a2, mI 0, mU]) rfl ?_
        refine v_iconst F dX11_sign_38 ⟨by decide, by decide⟩ ?_
        refine v_istore F dX11_sign_39 (Nat.le_of_ble_eq_true rfl) (L' := [mA 1545, mI a1, mI a2, mI 0, mI 0]) rfl ?_
        exact fX11_sign_41_ok F hX hp h K
      · rw [if_neg hq5] at h
        refine v_bipush F dX11_sign_33 rfl ⟨by decide, by decide⟩ ?_
        cases h
        cases (show _ = (d', r) from K)
        exact v_iret F dX11_sign_35
    · rw [if_pos hq2] at h
      refine v_iconst F dX11_sign_24 ⟨by decide, by decide⟩ ?_
      cases h
      cases (show _ = (d', r) from K)
      exact v_iret F dX11_sign_25
