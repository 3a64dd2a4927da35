set_option maxRecDepth 100000
set_option maxHeartbeats 4000000
theorem vm_X0_withdraw {w : Wd} {l : Launch} {d m : Dt} {a1 : Int} {d' : Dt} {r : Int} (hp : PB m 1 0) (h : fX0_withdraw d a1 = some (d', r)) : VM w l WF yX0_withdraw cX0_withdraw 2 (some .int) 4 115 0 0 d m [mA 1, mI a1] (some (mI r)) d' m := by
  obtain ⟨x, h, K⟩ : ∃ x, fX0_withdraw d a1 = some x ∧ x = (d', r) := ⟨_, h, rfl⟩
  refine VM.of (L := [mA 1, mI a1]) (by decide +kernel) rfl (Nat.le_of_ble_eq_true rfl) fun G F _ => v_fact fun _ hX _ _ => ?_
  unfold fX0_withdraw at h
  refine v_aload_n F dX0_withdraw_0 rfl rfl ?_
  refine v_iload_n F dX0_withdraw_1 rfl rfl ?_
  refine v_callVv (c := 0) F dX0_withdraw_2 cv_X0_349 rfl (PB.ob hp hX (Nat.le_of_ble_eq_true rfl)) (Nat.le_of_ble_eq_true rfl) rfl (vm_X0_isNomination hp) rfl (rOk.of rfl) ?_
  refine v_if_ne F dX0_withdraw_5 rfl (fun hq1 => ?_) (fun hq1 => ?_)
  · rw [if_neg hq1] at h
    refine v_aload_n F dX0_withdraw_10 rfl rfl ?_
    refine gf_X0_265 F dX0_withdraw_11 hp ?_
    refine v_if_eq F dX0_withdraw_14 rfl (fun hq2 => ?_) (fun hq2 => ?_)
    · rw [if_pos hq2] at h
      refine v_aload_n F dX0_withdraw_20 rfl rfl ?_
      refine gf_X0_68 F dX0_withdraw_21 hp (v := 58) rfl ?_
      refine v_iload_n F dX0_withdraw_24 rfl rfl ?_
      obtain ⟨hi3, h⟩ := ck_some h
      obtain ⟨x4, ex4, h⟩ := lv_some h
      obtain ⟨hn6, h⟩ := ck_some h
      refine v_aaldN (t := 111) (c := 13) F dX0_withdraw_25 (ar_X0_14 hX hp) (Nat.le_of_ble_eq_true rfl) rfl rfl rfl rfl rfl hi3 ex4 fun hr5 => ?_
      have x4p := hr5.resolve_left hn6
      refine gf_X0_352 F dX0_withdraw_26 x4p ?_
      refine v_if_eq F dX0_withdraw_29 rfl (fun hq7 => ?_) (fun hq7 => ?_)
      · rw [if_pos hq7] at h
        refine v_aload_n F dX0_withdraw_35 rfl rfl ?_
        refine gf_X0_68 F dX0_withdraw_36 hp (v := 58) rfl ?_
        refine v_iload_n F dX0_withdraw_39 rfl rfl ?_
        obtain ⟨x8, ex8, h⟩ := lv_some h
        obtain ⟨hn10, h⟩ := ck_some h
        refine v_aaldN (t := 111) (c := 13) F dX0_withdraw_40 (ar_X0_14 hX hp) (Nat.le_of_ble_eq_true rfl) rfl rfl rfl rfl rfl hi3 ex8 fun hr9 => ?_
        have x8p := hr9.resolve_left hn10
        refine v_iconst F dX0_withdraw_41 ⟨by decide, by decide⟩ ?_
        obtain ⟨d11, ed11, h⟩ := sd_some h
        refine pf_X0_352 F dX0_withdraw_42 x8p (Or.inr rfl) ?_
        refine v_nD ed11 ?_
        refine v_aload_n F dX0_withdraw_45 rfl rfl ?_
        refine gf_X0_68 F dX0_withdraw_46 hp (v := 58) rfl ?_
        refine v_iload_n F dX0_withdraw_49 rfl rfl ?_
        obtain ⟨x12, ex12, h⟩ := lv_some h
        obtain ⟨hn14, h⟩ := ck_some h
        refine v_aaldN (t := 111) (c := 13) F dX0_withdraw_50 (ar_X0_14 hX hp) (Nat.le_of_ble_eq_true rfl) rfl rfl rfl rfl rfl hi3 ex12 fun hr13 => ?_
        have x12p := hr13.resolve_left hn14
        refine v_iconst F dX0_withdraw_51 ⟨by decide, by decide⟩ ?_
        obtain ⟨d15, ed15, h⟩ := sd_some h
        refine pf_X0_374 F dX0_withdraw_52 x12p ?_
        refine v_nD ed15 ?_
        refine v_aload_n F dX0_withdraw_55 rfl rfl ?_
        refine v_bipush F dX0_withdraw_56 rfl ⟨by decide, by decide⟩ ?_
        refine v_iload_n F dX0_withdraw_58 rfl rfl ?_
        refine v_iconst F dX0_withdraw_59 ⟨by decide, by decide⟩ ?_
        refine v_iconst F dX0_withdraw_60 ⟨by decide, by decide⟩ ?_
        refine v_iconst F dX0_withdraw_61 ⟨by decide, by decide⟩ ?_
        obtain ⟨d16, hc17, h⟩ := bd_some h
        refine v_callV0 (c := 0) F dX0_withdraw_62 cv_X0_173 rfl (PB.ob hp hX (Nat.le_of_ble_eq_true rfl)) (Nat.le_of_ble_eq_true rfl) rfl (vm_X0_write hp hc17) rfl (rOk.of rfl) ?_
        refine v_iconst F dX0_withdraw_65 ⟨by decide, by decide⟩ ?_
        cases h
        cases (show _ = (d', r) from K)
        exact v_iret F dX0_withdraw_66
      · rw [if_neg hq7] at h
        refine v_bipush F dX0_withdraw_32 rfl ⟨by decide, by decide⟩ ?_
        cases h
        cases (show _ = (d', r) from K)
        exact v_iret F dX0_withdraw_34
    · rw [if_neg hq2] at h
      refine v_bipush F dX0_withdraw_17 rfl ⟨by decide, by decide⟩ ?_
      cases h
      cases (show _ = (d', r) from K)
      exact v_iret F dX0_withdraw_19
  · rw [if_pos hq1] at h
    refine v_iconst F dX0_withdraw_8 ⟨by decide, by decide⟩ ?_
    cases h
    cases (show _ = (d', r) from K)
    exact v_iret F dX0_withdraw_9
theorem vm_X11_withdraw {w : Wd} {l : Launch} {d m : Dt} {a1 : Int} {d' : Dt} {r : Int} (hp : PB m 1545 11) (h : fX11_withdraw d a1 = some (d', r)) : VM w l WF yX11_withdraw cX11_withdraw 2 (some .int) 3 73 0 0 d m [mA 1545, mI a1] (some (mI r)) d' m := by
  obtain ⟨x, h, K⟩ : ∃ x, fX11_withdraw d a1 = some x ∧ x = (d', r) := ⟨_, h, rfl⟩
  refine VM.of (L := [mA 1545, mI a1]) (by decide +kernel) rfl (Nat.le_of_ble_eq_true rfl) fun G F _ => v_fact fun _ hX _ _ => ?_
  unfold fX11_withdraw at h
  refine v_iload_n F dX11_withdraw_0 rfl rfl ?_
  refine v_i2l F dX11_withdraw_1 ?_
  refine v_lconst0 F dX11_withdraw_2 ?_
  refine v_aload_n F dX11_withdraw_3 rfl rfl ?_
  refine gf_X11_528 F dX11_withdraw_4 hp ?_
  refine v_iconst F dX11_withdraw_7 ⟨by decide, by decide⟩ ?_
  refine v_isub F dX11_withdraw_8 ?_
  refine v_i2l F dX11_withdraw_9 ?_
  refine v_callSv F dX11_withdraw_10 cs_X11_13 rfl (vm_X11_in) rfl (rOk.of rfl) ?_
  refine v_if_ne F dX11_withdraw_13 rfl (fun hq1 => ?_) (fun hq1 => ?_)
  · rw [if_neg hq1] at h
    refine v_aload_n F dX11_withdraw_18 rfl rfl ?_
    refine gf_X11_531 F dX11_withdraw_19 hp ?_
    refine v_if_eq F dX11_withdraw_22 rfl (fun hq2 => ?_) (fun hq2 => ?_)
    · rw [if_pos hq2] at h
      refine v_aload_n F dX11_withdraw_28 rfl rfl ?_
      refine gf_X11_590 F dX11_withdraw_29 hp (v := 1586) rfl ?_
      refine v_iload_n F dX11_withdraw_32 rfl rfl ?_
      obtain ⟨hi3, h⟩ := ck_some h
      refine v_iald F dX11_withdraw_33 (ar_X11_61 hX hp) hi3 ?_
      refine v_iconst F dX11_withdraw_34 ⟨by decide, by decide⟩ ?_
      refine v_icmp_ne F dX11_withdraw_35 rfl (fun hq4 => ?_) (fun hq4 => ?_)
      · rw [if_neg hq4] at h
        refine v_aload_n F dX11_withdraw_41 rfl rfl ?_
        refine gf_X11_590 F dX11_withdraw_42 hp (v := 1586) rfl ?_
        refine v_iload_n F dX11_withdraw_45 rfl rfl ?_
        refine v_iconst F dX11_withdraw_46 ⟨by decide, by decide⟩ ?_
        obtain ⟨d5, ed5, h⟩ := sd_some h
        refine v_iast F dX11_withdraw_47 (ar_X11_61 hX hp) hi3 ?_
        refine v_nD ed5 ?_
        refine v_aload_n F dX11_withdraw_48 rfl rfl ?_
        refine v_bipush F dX11_withdraw_49 rfl ⟨by decide, by decide⟩ ?_
        refine v_iload_n F dX11_withdraw_51 rfl rfl ?_
        refine v_iconst F dX11_withdraw_52 ⟨by decide, by decide⟩ ?_
        refine v_iconst F dX11_withdraw_53 ⟨by decide, by decide⟩ ?_
        refine v_iconst F dX11_withdraw_54 ⟨by decide, by decide⟩ ?_
        obtain ⟨d6, hc7, h⟩ := bd_some h
        refine v_callV0 (c := 11) F dX11_withdraw_55 cv_X11_22 rfl (PB.ob hp hX (Nat.le_of_ble_eq_true rfl)) (Nat.le_of_ble_eq_true rfl) rfl (vm_X11_write hp hc7) rfl (rOk.of rfl) ?_
        refine v_iconst F dX11_withdraw_58 ⟨by decide, by decide⟩ ?_
        cases h
        cases (show _ = (d', r) from K)
        exact v_iret F dX11_withdraw_59
      · rw [if_pos hq4] at h
        refine v_bipush F dX11_withdraw_38 rfl ⟨by decide, by decide⟩ ?_
        cases h
        cases (show _ = (d', r) from K)
        exact v_iret F dX11_withdraw_40
    · rw [if_neg hq2] at h
      refine v_bipush F dX11_withdraw_25 rfl ⟨by decide, by decide⟩ ?_
      cases h
      cases (show _ = (d', r) from K)
      exact v_iret F dX11_withdraw_27
  · rw [if_pos hq1] at h
    refine v_iconst F dX11_withdraw_16 ⟨by decide, by decide⟩ ?_
    cases h
    cases (show _ = (d', r) from K)
    exact v_iret F dX11_withdraw_17
theorem vm_X0_nomination {w : Wd} {l : Launch} {d m : Dt} {a1 a2 : Int} {r : Int} (hp : PB m 1 0) (h : fX0_nomination d a1 a2 = some r) : VM w l WF yX0_nomination cX0_nomination 4 (some .int) 2 43 0 0 d m [mA 1, mI a1, mI a2] (some (mI r)) d m := by
  obtain ⟨x, h, K⟩ : ∃ x, fX0_nomination d a1 a2 = some x ∧ x = r := ⟨_, h, rfl⟩
  refine VM.of (L := [mA 1, mI a1, mI a2, mU]) (by decide +kernel) rfl (Nat.le_of_ble_eq_true rfl) fun G F _ => v_fact fun _ hX _ _ => ?_
  unfold fX0_nomination at h
  refine v_aload_n F dX0_nomination_0 rfl rfl ?_
  refine v_iload_n F dX0_nomination_1 rfl rfl ?_
  refine v_callVv (c := 0) F dX0_nomination_2 cv_X0_349 rfl (PB.ob hp hX (Nat.le_of_ble_eq_true rfl)) (Nat.le_of_ble_eq_true rfl) rfl (vm_X0_isNomination hp) rfl (rOk.of rfl) ?_
  refine v_if_ne F dX0_nomination_5 rfl (fun hq1 => ?_) (fun hq1 => ?_)
  · rw [if_neg hq1] at h
    refine v_aload_n F dX0_nomination_10 rfl rfl ?_
    refine gf_X0_68 F dX0_nomination_11 hp (v := 58) rfl ?_
    refine v_iload_n F dX0_nomination_14 rfl rfl ?_
    obtain ⟨hi2, h⟩ := ck_some h
    obtain ⟨x3, ex3, h⟩ := lv_some h
    obtain ⟨hn5, h⟩ := ck_some h
    refine v_aaldN (t := 111) (c := 13) F dX0_nomination_15 (ar_X0_14 hX hp) (Nat.le_of_ble_eq_true rfl) rfl rfl rfl rfl rfl hi2 ex3 fun hr4 => ?_
    have x3p := hr4.resolve_left hn5
    refine v_astore_n F dX0_nomination_16 rfl (Nat.le_of_ble_eq_true rfl) (L' := [mA 1, mI a1, mI a2, mA x3]) rfl ?_
    refine v_iload_n F dX0_nomination_17 rfl rfl ?_
    by_cases hq6 : a2 = 0
    · rw [if_pos hq6] at h
      refine v_tableIn F dX0_nomination_18 hq6 (by decide) (by decide) rfl rfl ?_
      refine v_aload_n F dX0_nomination_56 rfl rfl ?_
      refine gf_X0_358 F dX0_nomination_57 x3p ?_
      cases h
      cases (show _ = r from K)
      exact v_iret F dX0_nomination_60
    · rw [if_neg hq6] at h
      by_cases hq7 : a2 = 1
      · rw [if_pos hq7] at h
        refine v_tableIn F dX0_nomination_18 hq7 (by decide) (by decide) rfl rfl ?_
        refine v_aload_n F dX0_nomination_61 rfl rfl ?_
        refine gf_X0_377 F dX0_nomination_62 x3p ?_
        cases h
        cases (show _ = r from K)
        exact v_iret F dX0_nomination_65
      · rw [if_neg hq7] at h
        by_cases hq8 : a2 = 2
        · rw [if_pos hq8] at h
          refine v_tableIn F dX0_nomination_18 hq8 (by decide) (by decide) rfl rfl ?_
          refine v_aload_n F dX0_nomination_66 rfl rfl ?_
          refine gf_X0_380 F dX0_nomination_67 x3p ?_
          cases h
          cases (show _ = r from K)
          exact v_iret F dX0_nomination_70
        · rw [if_neg hq8] at h
          by_cases hq9 : a2 = 3
          · rw [if_pos hq9] at h
            refine v_tableIn F dX0_nomination_18 hq9 (by decide) (by decide) rfl rfl ?_
            refine v_aload_n F dX0_nomination_71 rfl rfl ?_
            refine gf_X0_371 F dX0_nomination_72 x3p ?_
            cases h
            cases (show _ = r from K)
            exact v_iret F dX0_nomination_75
          · rw [if_neg hq9] at h
            by_cases hq10 : a2 = 4
            · rw [if_pos hq10] at h
              refine v_tableIn F dX0_nomination_18 hq10 (by decide) (by decide) rfl rfl ?_
              refine v_aload_n F dX0_nomination_76 rfl rfl ?_
              refine gf_X0_374 F dX0_nomination_77 x3p ?_
              cases h
              cases (show _ = r from K)
              exact v_iret F dX0_nomination_80
            · rw [if_neg hq10] at h
              by_cases hq11 : a2 = 5
              · rw [if_pos hq11] at h
                refine v_tableIn F dX0_nomination_18 hq11 (by decide) (by decide) rfl rfl ?_
                refine v_aload_n F dX0_nomination_81 rfl rfl ?_
                refine gf_X0_383 F dX0_nomination_82 x3p ?_
                cases h
                cases (show _ = r from K)
                exact v_iret F dX0_nomination_85
              · rw [if_neg hq11] at h
                refine v_tableOut F dX0_nomination_18 (by omega) rfl ?_
                refine v_bipush F dX0_nomination_86 rfl ⟨by decide, by decide⟩ ?_
                cases h
                cases (show _ = r from K)
                exact v_iret F dX0_nomination_88
  · rw [if_pos hq1] at h
    refine v_iconst F dX0_nomination_8 ⟨by decide, by decide⟩ ?_
    cases h
    cases (show _ = r from K)
    exact v_iret F dX0_nomination_9
theorem vm_X11_nomination {w : Wd} {l : Launch} {d m : Dt} {a1 a2 : Int} {r : Int} (hp : PB m 1545 11) (h : fX11_nomination d a1 a2 = some r) : VM w l WF yX11_nomination cX11_nomination 3 (some .int) 1 25 0 0 d m [mA 1545, mI a1, mI a2] (some (mI r)) d m := by
  obtain ⟨x, h, K⟩ : ∃ x, fX11_nomination d a1 a2 = some x ∧ x = r := ⟨_, h, rfl⟩
  refine VM.of (L := [mA 1545, mI a1, mI a2]) (by decide +kernel) rfl (Nat.le_of_ble_eq_true rfl) fun G F _ => v_fact fun _ hX _ _ => ?_
  unfold fX11_nomination at h
  refine v_iload_n F dX11_nomination_0 rfl rfl ?_
  refine v_i2l F dX11_nomination_1 ?_
  refine v_lconst0 F dX11_nomination_2 ?_
  refine v_aload_n F dX11_nomination_3 rfl rfl ?_
  refine gf_X11_528 F dX11_nomination_4 hp ?_
  refine v_iconst F dX11_nomination_7 ⟨by decide, by decide⟩ ?_
  refine v_isub F dX11_nomination_8 ?_
  refine v_i2l F dX11_nomination_9 ?_
  refine v_callSv F dX11_nomination_10 cs_X11_13 rfl (vm_X11_in) rfl (rOk.of rfl) ?_
  refine v_if_ne F dX11_nomination_13 rfl (fun hq1 => ?_) (fun hq1 => ?_)
  · rw [if_neg hq1] at h
    refine v_iload_n F dX11_nomination_18 rfl rfl ?_
    by_cases hq2 : a2 = 0
    · rw [if_pos hq2] at h
      refine v_tableIn F dX11_nomination_19 hq2 (by decide) (by decide) rfl rfl ?_
      refine v_aload_n F dX11_nomination_56 rfl rfl ?_
      refine gf_X11_575 F dX11_nomination_57 hp (v := 1582) rfl ?_
      refine v_iload_n F dX11_nomination_60 rfl rfl ?_
      obtain ⟨hi3, h⟩ := ck_some h
      refine v_iald F dX11_nomination_61 (ar_X11_57 hX hp) hi3 ?_
      cases h
      cases (show _ = r from K)
      exact v_iret F dX11_nomination_62
    · rw [if_neg hq2] at h
      by_cases hq4 : a2 = 1
      · rw [if_pos hq4] at h
        refine v_tableIn F dX11_nomination_19 hq4 (by decide) (by decide) rfl rfl ?_
        refine v_aload_n F dX11_nomination_63 rfl rfl ?_
        refine gf_X11_578 F dX11_nomination_64 hp (v := 1583) rfl ?_
        refine v_iload_n F dX11_nomination_67 rfl rfl ?_
        obtain ⟨hi5, h⟩ := ck_some h
        refine v_iald F dX11_nomination_68 (ar_X11_58 hX hp) hi5 ?_
        cases h
        cases (show _ = r from K)
        exact v_iret F dX11_nomination_69
      · rw [if_neg hq4] at h
        by_cases hq6 : a2 = 2
        · rw [if_pos hq6] at h
          refine v_tableIn F dX11_nomination_19 hq6 (by decide) (by decide) rfl rfl ?_
          refine v_aload_n F dX11_nomination_70 rfl rfl ?_
          refine gf_X11_584 F dX11_nomination_71 hp (v := 1584) rfl ?_
          refine v_iload_n F dX11_nomination_74 rfl rfl ?_
          obtain ⟨hi7, h⟩ := ck_some h
          refine v_iald F dX11_nomination_75 (ar_X11_59 hX hp) hi7 ?_
          cases h
          cases (show _ = r from K)
          exact v_iret F dX11_nomination_76
        · rw [if_neg hq6] at h
          by_cases hq8 : a2 = 3
          · rw [if_pos hq8] at h
            refine v_tableIn F dX11_nomination_19 hq8 (by decide) (by decide) rfl rfl ?_
            refine v_aload_n F dX11_nomination_77 rfl rfl ?_
            refine gf_X11_587 F dX11_nomination_78 hp (v := 1585) rfl ?_
            refine v_iload_n F dX11_nomination_81 rfl rfl ?_
            obtain ⟨hi9, h⟩ := ck_some h
            refine v_iald F dX11_nomination_82 (ar_X11_60 hX hp) hi9 ?_
            cases h
            cases (show _ = r from K)
            exact v_iret F dX11_nomination_83
          · rw [if_neg hq8] at h
            by_cases hq10 : a2 = 4
            · rw [if_pos hq10] at h
              refine v_tableIn F dX11_nomination_19 hq10 (by decide) (by decide) rfl rfl ?_
              refine v_aload_n F dX11_nomination_84 rfl rfl ?_
              refine gf_X11_590 F dX11_nomination_85 hp (v := 1586) rfl ?_
              refine v_iload_n F dX11_nomination_88 rfl rfl ?_
              obtain ⟨hi11, h⟩ := ck_some h
              refine v_iald F dX11_nomination_89 (ar_X11_61 hX hp) hi11 ?_
              cases h
              cases (show _ = r from K)
              exact v_iret F dX11_nomination_90
            · rw [if_neg hq10] at h
              by_cases hq12 : a2 = 5
              · rw [if_pos hq12] at h
                refine v_tableIn F dX11_nomination_19 hq12 (by decide) (by decide) rfl rfl ?_
                refine v_aload_n F dX11_nomination_91 rfl rfl ?_
                refine gf_X11_593 F dX11_nomination_92 hp (v := 1587) rfl ?_
                refine v_iload_n F dX11_nomination_95 rfl rfl ?_
                obtain ⟨hi13, h⟩ := ck_some h
                refine v_iald F dX11_nomination_96 (ar_X11_62 hX hp) hi13 ?_
                cases h
                cases (show _ = r from K)
                exact v_iret F dX11_nomination_97
              · rw [if_neg hq12] at h
                refine v_tableOut F dX11_nomination_19 (by omega) rfl ?_
                refine v_bipush F dX11_nomination_98 rfl ⟨by decide, by decide⟩ ?_
                cases h
                cases (show _ = r from K)
                exact v_iret F dX11_nomination_100
  · rw [if_pos hq1] at h
    refine v_iconst F dX11_nomination_16 ⟨by decide, by decide⟩ ?_
    cases h
    cases (show _ = r from K)
    exact v_iret F dX11_nomination_17
theorem vm_X9_add {w : Wd} {l : Launch} {d m : Dt} {o a1 a2 : Int} {d' : Dt} (hp : PB m o 9) (hp1 : PB m a1 13) (h : fX9_add d o a1 a2 = some d') : VM w l WF yX9_add cX9_add 3 none 0 0 0 0 d m [mA o, mA a1, mI a2] none d' m := by
  obtain ⟨x, h, K⟩ : ∃ x, fX9_add d o a1 a2 = some x ∧ x = d' := ⟨_, h, rfl⟩
  refine VM.of (L := [mA o, mA a1, mI a2]) (by decide +kernel) rfl (Nat.le_of_ble_eq_true rfl) fun G F _ => v_fact fun _ hX _ _ => ?_
  unfold fX9_add at h
  refine v_aload_n F dX9_add_0 rfl rfl ?_
  refine gf_X9_15 F dX9_add_1 hp (v := (o + 2)) rfl ?_
  refine v_aload_n F dX9_add_4 rfl rfl ?_
  refine gf_X9_38 F dX9_add_5 hp ?_
  refine v_aload_n F dX9_add_8 rfl rfl ?_
  refine gf_X9_45 F dX9_add_9 hp1 ?_
  obtain ⟨x1, ex1, h⟩ := lv_some h
  refine v_n2 ex1 ?_
  obtain ⟨hi2, h⟩ := ck_some h
  obtain ⟨d3, ed3, h⟩ := sd_some h
  refine v_iast F dX9_add_12 (ar_X9_2 hX hp) hi2 ?_
  refine v_nD ed3 ?_
  refine v_aload_n F dX9_add_13 rfl rfl ?_
  refine gf_X9_18 F dX9_add_14 hp (v := (o + 3)) rfl ?_
  refine v_aload_n F dX9_add_17 rfl rfl ?_
  refine gf_X9_38 F dX9_add_18 hp ?_
  refine v_aload_n F dX9_add_21 rfl rfl ?_
  refine gf_X9_50 F dX9_add_22 hp1 ?_
  obtain ⟨x4, ex4, h⟩ := lv_some h
  refine v_n2 ex4 ?_
  obtain ⟨hi5, h⟩ := ck_some h
  obtain ⟨d6, ed6, h⟩ := sd_some h
  refine v_iast F dX9_add_25 (ar_X9_3 hX hp) hi5 ?_
  refine v_nD ed6 ?_
  refine v_aload_n F dX9_add_26 rfl rfl ?_
  refine gf_X9_21 F dX9_add_27 hp (v := (o + 4)) rfl ?_
  refine v_aload_n F dX9_add_30 rfl rfl ?_
  refine gf_X9_38 F dX9_add_31 hp ?_
  refine v_iload_n F dX9_add_34 rfl rfl ?_
  obtain ⟨x7, ex7, h⟩ := lv_some h
  refine v_n2 ex7 ?_
  obtain ⟨hi8, h⟩ := ck_some h
  obtain ⟨d9, ed9, h⟩ := sd_some h
  refine v_iast F dX9_add_35 (ar_X9_4 hX hp) hi8 ?_
  refine v_nD ed9 ?_
  refine v_aload_n F dX9_add_36 rfl rfl ?_
  refine gf_X9_24 F dX9_add_37 hp (v := (o + 5)) rfl ?_
  refine v_aload_n F dX9_add_40 rfl rfl ?_
  refine gf_X9_38 F dX9_add_41 hp ?_
  refine v_iconst F dX9_add_44 ⟨by decide, by decide⟩ ?_
  obtain ⟨x10, ex10, h⟩ := lv_some h
  refine v_n2 ex10 ?_
  obtain ⟨hi11, h⟩ := ck_some h
  obtain ⟨d12, ed12, h⟩ := sd_some h
  refine v_zast F dX9_add_45 (ar_X9_5 hX hp) hi11 ?_
  refine v_nD ed12 ?_
  refine v_aload_n F dX9_add_46 rfl rfl ?_
  refine gf_X9_28 F dX9_add_47 hp (v := (o + 6)) rfl ?_
  refine v_aload_n F dX9_add_50 rfl rfl ?_
  refine gf_X9_38 F dX9_add_51 hp ?_
  refine v_aload_n F dX9_add_54 rfl rfl ?_
  refine gf_X9_38 F dX9_add_55 hp ?_
  obtain ⟨x13, ex13, h⟩ := lv_some h
  refine v_n2 ex13 ?_
  obtain ⟨hi14, h⟩ := ck_some h
  obtain ⟨d15, ed15, h⟩ := sd_some h
  refine v_iast F dX9_add_58 (ar_X9_7 hX hp) hi14 ?_
  refine v_nD ed15 ?_
  refine v_aload_n F dX9_add_59 rfl rfl ?_
  refine gf_X9_31 F dX9_add_60 hp (v := (o + 7)) rfl ?_
  refine v_aload_n F dX9_add_63 rfl rfl ?_
  refine gf_X9_38 F dX9_add_64 hp ?_
  refine v_aload_n F dX9_add_67 rfl rfl ?_
  refine gf_X9_38 F dX9_add_68 hp ?_
  obtain ⟨x16, ex16, h⟩ := lv_some h
  refine v_n2 ex16 ?_
  obtain ⟨hi17, h⟩ := ck_some h
  obtain ⟨d18, ed18, h⟩ := sd_some h
  refine v_iast F dX9_add_71 (ar_X9_8 hX hp) hi17 ?_
  refine v_nD ed18 ?_
  refine v_aload_n F dX9_add_72 rfl rfl ?_
  refine v_aload_n F dX9_add_73 rfl rfl ?_
  refine gf_X9_38 F dX9_add_74 hp ?_
  obtain ⟨d19, ed19, h⟩ := sd_some h
  refine pf_X9_53 F dX9_add_77 hp1 ?_
  refine v_nD ed19 ?_
  refine v_aload_n F dX9_add_80 rfl rfl ?_
  refine v_dup_A F dX9_add_81 ?_
  refine gf_X9_38 F dX9_add_82 hp ?_
  refine v_iconst F dX9_add_85 ⟨by decide, by decide⟩ ?_
  refine v_iadd F dX9_add_86 ?_
  obtain ⟨d20, ed20, h⟩ := sd_some h
  refine pf_X9_38 F dX9_add_87 hp ?_
  refine v_nD ed20 ?_
  cases h
  cases (show _ = d' from K)
  exact v_vret F dX9_add_90
def fX0_nominate_2P (w : Wd) (l : Launch) (G : Cx) (Q : State → Prop) (m : Dt) (s : Dt × Int) : Prop := V w l WF G Q s.1 m 0 0 2 [mA 1, mI (s.2), mU] []
theorem fX0_nominate_67_ok {w : Wd} {l : Launch} {G : Cx} {d m dd : Dt} {v1 v2 s0 s1 : Int} {d' : Dt} {x : ((Dt × Int) ⊕ Dt)} (F : Fx w G cX0_nominate RX0 3 none { frames := 1, cells := 0, slots := 0, locals := 22 }) (hX : WF dd m) (hp : PB m 1 0) (hv2 : PB m v2 13) (hs0 : PB m s0 13) (h : fX0_nominate_67 d v1 v2 s0 s1 = some x) (K : (Sum.elim (fX0_nominate_2P w l G (QM w G WF none d' m 0 0) m) (fun q => q = d')) x) : V w l WF G (QM w G WF none d' m 0 0) d m 0 0 67 [mA 1, mI v1, mA v2] [mI s1, mA s0] := by
  unfold fX0_nominate_67 at h
  obtain ⟨d18, ed18, h⟩ := sd_some h
  refine pf_X0_374 F dX0_nominate_67 hs0 ?_
  refine v_nD ed18 ?_
  refine v_aload_n F dX0_nominate_70 rfl rfl ?_
  refine gf_X0_374 F dX0_nominate_71 hv2 ?_
  refine v_iconst F dX0_nominate_74 ⟨by decide, by decide⟩ ?_
  refine v_icmp_ne F dX0_nominate_75 rfl (fun hq19 => ?_) (fun hq19 => ?_)
  · rw [if_neg hq19] at h
    obtain ⟨x20, ex20, h⟩ := lv_some h
    refine v_iincN F dX0_nominate_92 (Nat.le_of_ble_eq_true rfl) rfl ex20 (L' := [mA 1, mI x20, mA v2]) rfl ?_
    refine v_goto F dX0_nominate_95 rfl ?_
    cases h
    refine v_fgt (L' := [mA 1, mI x20, mU]) ⟨Or.inl rfl, Or.inl rfl, Or.inr rfl, trivial⟩ ?_
    exact K
  · rw [if_pos hq19] at h
    refine v_aload_n F dX0_nominate_78 rfl rfl ?_
    refine gf_X0_62 F dX0_nominate_79 hp (v := 57) rfl ?_
    refine v_aload_n F dX0_nominate_82 rfl rfl ?_
    refine gf_X0_358 F dX0_nominate_83 hv2 ?_
    obtain ⟨x21, ex21, h⟩ := lv_some h
    refine v_nI ex21 ?_
    obtain ⟨hi22, h⟩ := ck_some h
    refine v_aaldF (c := 0) (k := 13) F dX0_nominate_86 hp (Nat.le_of_ble_eq_true rfl) (Nat.le_of_ble_eq_true rfl) (by decide) (by decide) rfl (ar_X0_13 hX hp) (Nat.le_of_ble_eq_true rfl) rfl rfl rfl rfl hi22 (v := (629 + 8 * x21)) (by show 1 + 628 + 8 * x21 = _; omega) ?_
    refine v_aload_n F dX0_nominate_87 rfl rfl ?_
    refine v_iload_n F dX0_nominate_88 rfl rfl ?_
    obtain ⟨d23, hc24, h⟩ := bd_some h
    refine v_callV0 (c := 9) F dX0_nominate_89 cv_X0_387 rfl (PB.ob (ae_X0_13 (i := x21) hX hp hi22 (v := (629 + 8 * x21)) (by omega)) hX (Nat.le_of_ble_eq_true rfl)) (Nat.le_of_ble_eq_true rfl) rfl (vm_X9_add (ae_X0_13 (i := x21) hX hp hi22 (v := (629 + 8 * x21)) (by omega)) hv2 hc24) rfl (rOk.of rfl) ?_
    obtain ⟨x25, ex25, h⟩ := lv_some h
    refine v_iincN F dX0_nominate_92 (Nat.le_of_ble_eq_true rfl) rfl ex25 (L' := [mA 1, mI x25, mA v2]) rfl ?_
    refine v_goto F dX0_nominate_95 rfl ?_
    cases h
    refine v_fgt (L' := [mA 1, mI x25, mU]) ⟨Or.inl rfl, Or.inl rfl, Or.inr rfl, trivial⟩ ?_
    exact K
theorem fX0_nominate_2f_ok {w : Wd} {l : Launch} {G : Cx} {m dd : Dt} {d' : Dt} {s : Dt × Int} {x : ((Dt × Int) ⊕ Dt)} (F : Fx w G cX0_nominate RX0 3 none { frames := 1, cells := 0, slots := 0, locals := 22 }) (hX : WF dd m) (hp : PB m 1 0) (h : fX0_nominate_2f s = some x) (K : (Sum.elim (fX0_nominate_2P w l G (QM w G WF none d' m 0 0) m) (fun q => q = d')) x) : V w l WF G (QM w G WF none d' m 0 0) s.1 m 0 0 2 [mA 1, mI (s.2), mU] [] := by
  obtain ⟨d, v1⟩ := s
  unfold fX0_nominate_2f at h
  dsimp only at h
  refine v_iload_n F dX0_nominate_2 rfl rfl ?_
  refine v_aload_n F dX0_nominate_3 rfl rfl ?_
  refine gf_X0_262 F dX0_nominate_4 hp ?_
  refine v_icmp_ge F dX0_nominate_7 rfl (fun hq1 => ?_) (fun hq1 => ?_)
  · rw [if_pos hq1] at h
    obtain ⟨z, hu, ez⟩ := up_some h
    clear h
    subst ez
    have h := hu
    clear hu
    cases h
    cases (show _ = d' from K)
    exact v_vret F dX0_nominate_98
  · rw [if_neg hq1] at h
    refine v_aload_n F dX0_nominate_10 rfl rfl ?_
    refine gf_X0_68 F dX0_nominate_11 hp (v := 58) rfl ?_
    refine v_iload_n F dX0_nominate_14 rfl rfl ?_
    obtain ⟨hi2, h⟩ := ck_some h
    obtain ⟨x3, ex3, h⟩ := lv_some h
    obtain ⟨hn5, h⟩ := ck_some h
    refine v_aaldN (t := 111) (c := 13) F dX0_nominate_15 (ar_X0_14 hX hp) (Nat.le_of_ble_eq_true rfl) rfl rfl rfl rfl rfl hi2 ex3 fun hr4 => ?_
    have x3p := hr4.resolve_left hn5
    refine v_astore_n F dX0_nominate_16 rfl (Nat.le_of_ble_eq_true rfl) (L' := [mA 1, mI v1, mA x3]) rfl ?_
    refine v_aload_n F dX0_nominate_17 rfl rfl ?_
    refine gf_X0_352 F dX0_nominate_18 x3p ?_
    refine v_if_ne F dX0_nominate_21 rfl (fun hq6 => ?_) (fun hq6 => ?_)
    · rw [if_neg hq6] at h
      obtain ⟨x7, ex7, h⟩ := lv_some h
      refine v_iincN F dX0_nominate_92 (Nat.le_of_ble_eq_true rfl) rfl ex7 (L' := [mA 1, mI x7, mA x3]) rfl ?_
      refine v_goto F dX0_nominate_95 rfl ?_
      cases h
      refine v_fgt (L' := [mA 1, mI x7, mU]) ⟨Or.inl rfl, Or.inl rfl, Or.inr rfl, trivial⟩ ?_
      exact K
    · rw [if_pos hq6] at h
      refine v_aload_n F dX0_nominate_24 rfl rfl ?_
      refine v_aload_n F dX0_nominate_25 rfl rfl ?_
      refine gf_X0_26 F dX0_nominate_26 hp (v := 9) rfl ?_
      refine v_aload_n F dX0_nominate_29 rfl rfl ?_
      refine gf_X0_377 F dX0_nominate_30 x3p ?_
      obtain ⟨x8, ex8, h⟩ := lv_some h
      refine v_nI ex8 ?_
      obtain ⟨hi9, h⟩ := ck_some h
      obtain ⟨x10, ex10, h⟩ := lv_some h
      obtain ⟨hn12, h⟩ := ck_some h
      refine v_aaldN (t := 109) (c := 12) F dX0_nominate_33 (ar_X0_4 hX hp) (Nat.le_of_ble_eq_true rfl) rfl rfl rfl rfl rfl hi9 ex10 fun hr11 => ?_
      have x10p := hr11.resolve_left hn12
      refine v_aload_n F dX0_nominate_34 rfl rfl ?_
      refine gf_X0_167 F dX0_nominate_35 hp ?_
      refine v_callVv (c := 12) F dX0_nominate_38 cv_X0_339 rfl (PB.ob x10p hX (Nat.le_of_ble_eq_true rfl)) (Nat.le_of_ble_eq_true rfl) rfl (vm_X13_isAlive x10p) rfl (rOk.of rfl) ?_
      refine v_if_ne F dX0_nominate_41 rfl (fun hq13 => ?_) (fun hq13 => ?_)
      · rw [if_neg hq13] at h
        refine v_aload_n F dX0_nominate_48 rfl rfl ?_
        refine gf_X0_371 F dX0_nominate_49 x3p ?_
        refine v_aload_n F dX0_nominate_52 rfl rfl ?_
        obtain ⟨x14, ex14, h⟩ := lv_some h
        obtain ⟨hn16, h⟩ := ck_some h
        refine gf_X0_42 F dX0_nominate_53 hp ex14 fun hr15 => ?_
        have x14p := hr15.resolve_left hn16
        refine gf_X0_386 F dX0_nominate_56 x14p ?_
        refine v_icmp_ge F dX0_nominate_59 rfl (fun hq17 => ?_) (fun hq17 => ?_)
        · rw [if_pos hq17] at h
          refine v_iconst F dX0_nominate_66 ⟨by decide, by decide⟩ ?_
          exact fX0_nominate_67_ok F hX hp x3p x3p h K
        · rw [if_neg hq17] at h
          refine v_iconst F dX0_nominate_62 ⟨by decide, by decide⟩ ?_
          refine v_goto F dX0_nominate_63 rfl ?_
          exact fX0_nominate_67_ok F hX hp x3p x3p h K
      · rw [if_pos hq13] at h
        refine v_iconst F dX0_nominate_44 ⟨by decide, by decide⟩ ?_
        refine v_goto F dX0_nominate_45 rfl ?_
        exact fX0_nominate_67_ok F hX hp x3p x3p h K
theorem fX0_nominate_2_ok {w : Wd} {l : Launch} {G : Cx} {d m dd : Dt} {v1 : Int} {d' : Dt} {x : Dt} (F : Fx w G cX0_nominate RX0 3 none { frames := 1, cells := 0, slots := 0, locals := 22 }) (hX : WF dd m) (hp : PB m 1 0) (h : fX0_nominate_2 d v1 = some x) (K : (fun q => q = d') x) : V w l WF G (QM w G WF none d' m 0 0) d m 0 0 2 [mA 1, mI v1, mU] [] := by
  unfold fX0_nominate_2 at h
  exact loop_ok (P := fX0_nominate_2P w l G (QM w G WF none d' m 0 0) m) (fun s x hx h1 h2 => fX0_nominate_2f_ok F hX hp hx (by
    cases x with
    | inl s' => exact h1 s' rfl
    | inr z => cases h2 z rfl; exact K)) h
theorem vm_X0_nominate {w : Wd} {l : Launch} {d m : Dt} {d' : Dt} (hp : PB m 1 0) (h : fX0_nominate d = some d') : VM w l WF yX0_nominate cX0_nominate 3 none 1 22 0 0 d m [mA 1] none d' m := by
  obtain ⟨x, h, K⟩ : ∃ x, fX0_nominate d = some x ∧ x = d' := ⟨_, h, rfl⟩
  refine VM.of (L := [mA 1, mU, mU]) (by decide +kernel) rfl (Nat.le_of_ble_eq_true rfl) fun G F _ => v_fact fun _ hX _ _ => ?_
  unfold fX0_nominate at h
  refine v_iconst F dX0_nominate_0 ⟨by decide, by decide⟩ ?_
  refine v_istore_n F dX0_nominate_1 rfl (Nat.le_of_ble_eq_true rfl) (L' := [mA 1, mI 0, mU]) rfl ?_
  exact fX0_nominate_2_ok F hX hp h K
def fX0_sheetOf_27P (w : Wd) (l : Launch) (G : Cx) (Q : State → Prop) (m : Dt) (d : Dt) (a1 v2 v3 : Int) (s : Int × Int) : Prop := V w l WF G Q d m 0 0 27 [mA 1, mU, mI v2, mI v3, mI (s.1), mI (s.2)] []
theorem fX0_sheetOf_74_ok {w : Wd} {l : Launch} {G : Cx} {d m dd : Dt} {a1 v2 v3 v5 s0 s1 : Int} {r : Int} {x : ((Int × Int) ⊕ Int)} (F : Fx w G cX0_sheetOf RX0 6 (some .int) { frames := 3, cells := 0, slots := 0, locals := 69 }) (hX : WF dd m) (hp : PB m 1 0) (h : fX0_sheetOf_74 d a1 v2 v3 v5 s0 s1 = some x) (K : (Sum.elim (fX0_sheetOf_27P w l G (QM w G WF (some (mI r)) d m 0 0) m d a1 v2 v3) (fun q => q = r)) x) : V w l WF G (QM w G WF (some (mI r)) d m 0 0) d m 0 0 74 [mA 1, mU, mI v2, mI v3, mU, mI v5] [mI s1, mI s0] := by
  unfold fX0_sheetOf_74 at h
  refine v_ior F dX0_sheetOf_74 ?_
  obtain ⟨x22, ex22, h⟩ := lv_some h
  refine v_nI ex22 ?_
  refine v_istore F dX0_sheetOf_75 (Nat.le_of_ble_eq_true rfl) (L' := [mA 1, mU, mI v2, mI v3, mI x22, mI v5]) rfl ?_
  obtain ⟨x23, ex23, h⟩ := lv_some h
  refine v_iincN F dX0_sheetOf_77 (Nat.le_of_ble_eq_true rfl) rfl ex23 (L' := [mA 1, mU, mI v2, mI v3, mI x22, mI x23]) rfl ?_
  refine v_goto F dX0_sheetOf_80 rfl ?_
  cases h
  exact K
theorem fX0_sheetOf_27f_ok {w : Wd} {l : Launch} {G : Cx} {d m dd : Dt} {a1 v2 v3 : Int} {r : Int} {s : Int × Int} {x : ((Int × Int) ⊕ Int)} (F : Fx w G cX0_sheetOf RX0 6 (some .int) { frames := 3, cells := 0, slots := 0, locals := 69 }) (hX : WF dd m) (hp : PB m 1 0) (h : fX0_sheetOf_27f d a1 v2 v3 s = some x) (K : (Sum.elim (fX0_sheetOf_27P w l G (QM w G WF (some (mI r)) d m 0 0) m d a1 v2 v3) (fun q => q = r)) x) : V w l WF G (QM w G WF (some (mI r)) d m 0 0) d m 0 0 27 [mA 1, mU, mI v2, mI v3, mI (s.1), mI (s.2)] [] := by
  obtain ⟨v4, v5⟩ := s
  unfold fX0_sheetOf_27f at h
  dsimp only at h
  refine v_iload F dX0_sheetOf_27 rfl ?_
  refine v_aload_n F dX0_sheetOf_29 rfl rfl ?_
  obtain ⟨x11, ex11, h⟩ := lv_some h
  obtain ⟨hn13, h⟩ := ck_some h
  refine gf_X0_42 F dX0_sheetOf_30 hp ex11 fun hr12 => ?_
  have x11p := hr12.resolve_left hn13
  refine gf_X0_259 F dX0_sheetOf_33 x11p ?_
  refine v_icmp_ge F dX0_sheetOf_36 rfl (fun hq14 => ?_) (fun hq14 => ?_)
  · rw [if_pos hq14] at h
    obtain ⟨z, hu, ez⟩ := up_some h
    clear h
    subst ez
    have h := hu
    clear hu
    refine v_iload F dX0_sheetOf_83 rfl ?_
    cases h
    cases (show _ = r from K)
    exact v_iret F dX0_sheetOf_85
  · rw [if_neg hq14] at h
    refine v_iload F dX0_sheetOf_39 rfl ?_
    refine v_aload_n F dX0_sheetOf_41 rfl rfl ?_
    refine gf_X0_20 F dX0_sheetOf_42 hp (v := 3) rfl ?_
    refine v_aload_n F dX0_sheetOf_45 rfl rfl ?_
    obtain ⟨x15, ex15, h⟩ := lv_some h
    obtain ⟨hn17, h⟩ := ck_some h
    refine gf_X0_42 F dX0_sheetOf_46 hp ex15 fun hr16 => ?_
    have x15p := hr16.resolve_left hn17
    refine gf_X0_299 F dX0_sheetOf_49 x15p (v := (x15 + 11)) rfl ?_
    refine v_iload F dX0_sheetOf_52 rfl ?_
    obtain ⟨hi18, h⟩ := ck_some h
    refine v_aaldF (c := 4) (k := 13) F dX0_sheetOf_54 x15p (Nat.le_of_ble_eq_true rfl) (Nat.le_of_ble_eq_true rfl) (by decide) (by decide) rfl (ar_X4_13 hX x15p) (Nat.le_of_ble_eq_true rfl) rfl rfl rfl rfl hi18 (v := ((x15 + 13) + v5)) (by show x15 + 13 + 1 * v5 = _; omega) ?_
    refine gf_X0_303 F dX0_sheetOf_55 (ae_X4_13 (i := v5) hX x15p hi18 (v := ((x15 + 13) + v5)) (by omega)) ?_
    refine v_iload_n F dX0_sheetOf_58 rfl rfl ?_
    refine v_iload_n F dX0_sheetOf_59 rfl rfl ?_
    obtain ⟨x19, hc20, h⟩ := b1_some h
    refine v_callVv (c := 1) F dX0_sheetOf_60 cv_X0_361 rfl (PB.ob (ob_X0_3 hX hp) hX (Nat.le_of_ble_eq_true rfl)) (Nat.le_of_ble_eq_true rfl) rfl (vm_X1_isIn (ob_X0_3 hX hp) hc20) rfl (rOk.of rfl) ?_
    refine v_if_eq F dX0_sheetOf_63 rfl (fun hq21 => ?_) (fun hq21 => ?_)
    · rw [if_pos hq21] at h
      refine v_iconst F dX0_sheetOf_73 ⟨by decide, by decide⟩ ?_
      refine v_fgt (L' := [mA 1, mU, mI v2, mI v3, mU, mI v5]) ⟨Or.inl rfl, Or.inl rfl, Or.inl rfl, Or.inl rfl, Or.inr rfl, Or.inl rfl, trivial⟩ ?_
      exact fX0_sheetOf_74_ok F hX hp h K
    · rw [if_neg hq21] at h
      refine v_iconst F dX0_sheetOf_66 ⟨by decide, by decide⟩ ?_
      refine v_iload F dX0_sheetOf_67 rfl ?_
      refine v_ishl F dX0_sheetOf_69 ?_
      refine v_goto F dX0_sheetOf_70 rfl ?_
      refine v_fgt (L' := [mA 1, mU, mI v2, mI v3, mU, mI v5]) ⟨Or.inl rfl, Or.inl rfl, Or.inl rfl, Or.inl rfl, Or.inr rfl, Or.inl rfl, trivial⟩ ?_
      exact fX0_sheetOf_74_ok F hX hp h K
theorem fX0_sheetOf_27_ok {w : Wd} {l : Launch} {G : Cx} {d m dd : Dt} {a1 v2 v3 v4 v5 : Int} {r : Int} {x : Int} (F : Fx w G cX0_sheetOf RX0 6 (some .int) { frames := 3, cells := 0, slots := 0, locals := 69 }) (hX : WF dd m) (hp : PB m 1 0) (h : fX0_sheetOf_27 d a1 v2 v3 v4 v5 = some x) (K : (fun q => q = r) x) : V w l WF G (QM w G WF (some (mI r)) d m 0 0) d m 0 0 27 [mA 1, mU, mI v2, mI v3, mI v4, mI v5] [] := by
  unfold fX0_sheetOf_27 at h
  exact loop_ok (P := fX0_sheetOf_27P w l G (QM w G WF (some (mI r)) d m 0 0) m d a1 v2 v3) (fun s x hx h1 h2 => fX0_sheetOf_27f_ok F hX hp hx (by
    cases x with
    | inl s' => exact h1 s' rfl
    | inr z => cases h2 z rfl; exact K)) h
theorem vm_X0_sheetOf {w : Wd} {l : Launch} {d m : Dt} {a1 : Int} {r : Int} (hp : PB m 1 0) (h : fX0_sheetOf d a1 = some r) : VM w l WF yX0_sheetOf cX0_sheetOf 6 (some .int) 3 69 0 0 d m [mA 1, mI a1] (some (mI r)) d m := by
  obtain ⟨x, h, K⟩ : ∃ x, fX0_sheetOf d a1 = some x ∧ x = r := ⟨_, h, rfl⟩
  refine VM.of (L := [mA 1, mI a1, mU, mU, mU, mU]) (by decide +kernel) rfl (Nat.le_of_ble_eq_true rfl) fun G F _ => v_fact fun _ hX _ _ => ?_
  unfold fX0_sheetOf at h
  refine v_aload_n F dX0_sheetOf_0 rfl rfl ?_
  obtain ⟨x1, ex1, h⟩ := lv_some h
  obtain ⟨hn3, h⟩ := ck_some h
  refine gf_X0_42 F dX0_sheetOf_1 hp ex1 fun hr2 => ?_
  have x1p := hr2.resolve_left hn3
  refine gf_X0_293 F dX0_sheetOf_4 x1p (v := (x1 + 1)) rfl ?_
  refine v_iconst F dX0_sheetOf_7 ⟨by decide, by decide⟩ ?_
  refine v_iald F dX0_sheetOf_8 (ar_X4_0 hX x1p) ⟨by decide, by decide⟩ ?_
  obtain ⟨x4, ex4, h⟩ := lv_some h
  refine v_nI ex4 ?_
  refine v_istore_n F dX0_sheetOf_9 rfl (Nat.le_of_ble_eq_true rfl) (L' := [mA 1, mI a1, mI x4, mU, mU, mU]) rfl ?_
  refine v_aload_n F dX0_sheetOf_10 rfl rfl ?_
  refine gf_X0_26 F dX0_sheetOf_11 hp (v := 9) rfl ?_
  refine v_iload_n F dX0_sheetOf_14 rfl rfl ?_
  obtain ⟨hi5, h⟩ := ck_some h
  obtain ⟨x6, ex6, h⟩ := lv_some h
  obtain ⟨hn8, h⟩ := ck_some h
  refine v_aaldN (t := 109) (c := 12) F dX0_sheetOf_15 (ar_X0_4 hX hp) (Nat.le_of_ble_eq_true rfl) rfl rfl rfl rfl rfl hi5 ex6 fun hr7 => ?_
  have x6p := hr7.resolve_left hn8
  refine v_iload_n F dX0_sheetOf_16 rfl rfl ?_
  obtain ⟨x9, hc10, h⟩ := b1_some h
  refine v_callVv (c := 12) F dX0_sheetOf_17 cv_X0_247 rfl (PB.ob x6p hX (Nat.le_of_ble_eq_true rfl)) (Nat.le_of_ble_eq_true rfl) rfl (vm_X13_address x6p hc10) rfl (rOk.of rfl) ?_
  refine v_istore_n F dX0_sheetOf_20 rfl (Nat.le_of_ble_eq_true rfl) (L' := [mA 1, mI a1, mI x4, mI x9, mU, mU]) rfl ?_
  refine v_iconst F dX0_sheetOf_21 ⟨by decide, by decide⟩ ?_
  refine v_istore F dX0_sheetOf_22 (Nat.le_of_ble_eq_true rfl) (L' := [mA 1, mI a1, mI x4, mI x9, mI 0, mU]) rfl ?_
  refine v_iconst F dX0_sheetOf_24 ⟨by decide, by decide⟩ ?_
  refine v_istore F dX0_sheetOf_25 (Nat.le_of_ble_eq_true rfl) (L' := [mA 1, mI a1, mI x4, mI x9, mI 0, mI 0]) rfl ?_
  refine v_fgt (L' := [mA 1, mU, mI x4, mI x9, mI 0, mI 0]) ⟨Or.inl rfl, Or.inr rfl, Or.inl rfl, Or.inl rfl, Or.inl rfl, Or.inl rfl, trivial⟩ ?_
  exact fX0_sheetOf_27_ok F hX hp h K
theorem vm_X0_enroll {w : Wd} {l : Launch} {d m : Dt} {a1 a2 : Int} {d' : Dt} (hp : PB m 1 0) (h : fX0_enroll d a1 a2 = some d') : VM w l WF yX0_enroll cX0_enroll 3 none 0 0 0 0 d m [mA 1, mI a1, mI a2] none d' m := by
  obtain ⟨x, h, K⟩ : ∃ x, fX0_enroll d a1 a2 = some x ∧ x = d' := ⟨_, h, rfl⟩
  refine VM.of (L := [mA 1, mI a1, mI a2]) (by decide +kernel) rfl (Nat.le_of_ble_eq_true rfl) fun G F _ => v_fact fun _ hX _ _ => ?_
  unfold fX0_enroll at h
  refine v_aload_n F dX0_enroll_0 rfl rfl ?_
  refine gf_X0_76 F dX0_enroll_1 hp (v := 60) rfl ?_
  refine v_aload_n F dX0_enroll_4 rfl rfl ?_
  refine gf_X0_268 F dX0_enroll_5 hp ?_
  refine v_iload_n F dX0_enroll_8 rfl rfl ?_
  obtain ⟨x1, ex1, h⟩ := lv_some h
  refine v_n2 ex1 ?_
  obtain ⟨hi2, h⟩ := ck_some h
  obtain ⟨d3, ed3, h⟩ := sd_some h
  refine v_iast F dX0_enroll_9 (ar_X0_18 hX hp) hi2 ?_
  refine v_nD ed3 ?_
  refine v_aload_n F dX0_enroll_10 rfl rfl ?_
  refine gf_X0_79 F dX0_enroll_11 hp (v := 61) rfl ?_
  refine v_aload_n F dX0_enroll_14 rfl rfl ?_
  refine gf_X0_268 F dX0_enroll_15 hp ?_
  refine v_iload_n F dX0_enroll_18 rfl rfl ?_
  obtain ⟨x4, ex4, h⟩ := lv_some h
  refine v_n2 ex4 ?_
  obtain ⟨hi5, h⟩ := ck_some h
  obtain ⟨d6, ed6, h⟩ := sd_some h
  refine v_iast F dX0_enroll_19 (ar_X0_19 hX hp) hi5 ?_
  refine v_nD ed6 ?_
  refine v_aload_n F dX0_enroll_20 rfl rfl ?_
  refine gf_X0_82 F dX0_enroll_21 hp (v := 62) rfl ?_
  refine v_aload_n F dX0_enroll_24 rfl rfl ?_
  refine gf_X0_268 F dX0_enroll_25 hp ?_
  refine v_iconst F dX0_enroll_28 ⟨by decide, by decide⟩ ?_
  obtain ⟨x7, ex7, h⟩ := lv_some h
  refine v_n2 ex7 ?_
  obtain ⟨hi8, h⟩ := ck_some h
  obtain ⟨d9, ed9, h⟩ := sd_some h
  refine v_zast F dX0_enroll_29 (ar_X0_20 hX hp) hi8 ?_
  refine v_nD ed9 ?_
  refine v_aload_n F dX0_enroll_30 rfl rfl ?_
  refine gf_X0_86 F dX0_enroll_31 hp (v := 63) rfl ?_
  refine v_iload_n F dX0_enroll_34 rfl rfl ?_
  refine v_aload_n F dX0_enroll_35 rfl rfl ?_
  refine gf_X0_268 F dX0_enroll_36 hp ?_
  obtain ⟨hi10, h⟩ := ck_some h
  obtain ⟨d11, ed11, h⟩ := sd_some h
  refine v_iast F dX0_enroll_39 (ar_X0_22 hX hp) hi10 ?_
  refine v_nD ed11 ?_
  refine v_aload_n F dX0_enroll_40 rfl rfl ?_
  refine v_dup_A F dX0_enroll_41 ?_
  refine gf_X0_268 F dX0_enroll_42 hp ?_
  refine v_iconst F dX0_enroll_45 ⟨by decide, by decide⟩ ?_
  refine v_iadd F dX0_enroll_46 ?_
  obtain ⟨d12, ed12, h⟩ := sd_some h
  refine pf_X0_268 F dX0_enroll_47 hp ?_
  refine v_nD ed12 ?_
  cases h
  cases (show _ = d' from K)
  exact v_vret F dX0_enroll_50
def fX0_freeze_49P (w : Wd) (l : Launch) (G : Cx) (Q : State → Prop) (m : Dt) (s : Dt × Int) : Prop := V w l WF G Q s.1 m 0 0 49 [mA 1, mI (s.2), mU] []
theorem fX0_freeze_49f_ok {w : Wd} {l : Launch} {G : Cx} {m dd : Dt} {d' : Dt} {r : Int} {s : Dt × Int} {x : ((Dt × Int) ⊕ (Dt × Int))} (F : Fx w G cX0_freeze RX0 3 (some .int) { frames := 8, cells := 0, slots := 0, locals := 184 }) (hX : WF dd m) (hp : PB m 1 0) (h : fX0_freeze_49f s = some x) (K : (Sum.elim (fX0_freeze_49P w l G (QM w G WF (some (mI r)) d' m 0 0) m) (fun q => q = (d', r))) x) : V w l WF G (QM w G WF (some (mI r)) d' m 0 0) s.1 m 0 0 49 [mA 1, mI (s.2), mU] [] := by
  obtain ⟨d, v1⟩ := s
  unfold fX0_freeze_49f at h
  dsimp only at h
  refine v_iload_n F dX0_freeze_49 rfl rfl ?_
  refine v_aload_n F dX0_freeze_50 rfl rfl ?_
  refine gf_X0_200 F dX0_freeze_51 hp ?_
  refine v_icmp_ge F dX0_freeze_54 rfl (fun hq10 => ?_) (fun hq10 => ?_)
  · rw [if_pos hq10] at h
    obtain ⟨z, hu, ez⟩ := up_some h
    clear h
    subst ez
    have h := hu
    clear hu
    refine v_aload_n F dX0_freeze_108 rfl rfl ?_
    refine v_bipush F dX0_freeze_109 rfl ⟨by decide, by decide⟩ ?_
    refine v_iconst F dX0_freeze_111 ⟨by decide, by decide⟩ ?_
    refine v_iconst F dX0_freeze_112 ⟨by decide, by decide⟩ ?_
    refine v_iconst F dX0_freeze_113 ⟨by decide, by decide⟩ ?_
    refine v_iconst F dX0_freeze_114 ⟨by decide, by decide⟩ ?_
    obtain ⟨d11, hc12, h⟩ := bd_some h
    refine v_callV0 (c := 0) F dX0_freeze_115 cv_X0_173 rfl (PB.ob hp hX (Nat.le_of_ble_eq_true rfl)) (Nat.le_of_ble_eq_true rfl) rfl (vm_X0_write hp hc12) rfl (rOk.of rfl) ?_
    refine v_aload_n F dX0_freeze_118 rfl rfl ?_
    refine gf_X0_268 F dX0_freeze_119 hp ?_
    cases h
    cases (show _ = (d', r) from K)
    exact v_iret F dX0_freeze_122
  · rw [if_neg hq10] at h
    refine v_aload_n F dX0_freeze_57 rfl rfl ?_
    refine v_iload_n F dX0_freeze_58 rfl rfl ?_
    obtain ⟨x13, hc14, h⟩ := b1_some h
    refine v_callVv (c := 0) F dX0_freeze_59 cv_X0_393 rfl (PB.ob hp hX (Nat.le_of_ble_eq_true rfl)) (Nat.le_of_ble_eq_true rfl) rfl (vm_X0_sheetOf hp hc14) rfl (rOk.of rfl) ?_
    refine v_istore_n F dX0_freeze_62 rfl (Nat.le_of_ble_eq_true rfl) (L' := [mA 1, mI v1, mI x13]) rfl ?_
    refine v_iload_n F dX0_freeze_63 rfl rfl ?_
    refine v_if_eq F dX0_freeze_64 rfl (fun hq15 => ?_) (fun hq15 => ?_)
    · rw [if_pos hq15] at h
      obtain ⟨x16, ex16, h⟩ := lv_some h
      refine v_iincN F dX0_freeze_102 (Nat.le_of_ble_eq_true rfl) rfl ex16 (L' := [mA 1, mI x16, mI x13]) rfl ?_
      refine v_goto F dX0_freeze_105 rfl ?_
      cases h
      refine v_fgt (L' := [mA 1, mI x16, mU]) ⟨Or.inl rfl, Or.inl rfl, Or.inr rfl, trivial⟩ ?_
      exact K
    · rw [if_neg hq15] at h
      refine v_aload_n F dX0_freeze_67 rfl rfl ?_
      refine gf_X0_26 F dX0_freeze_68 hp (v := 9) rfl ?_
      refine v_iload_n F dX0_freeze_71 rfl rfl ?_
      obtain ⟨hi17, h⟩ := ck_some h
      obtain ⟨x18, ex18, h⟩ := lv_some h
      obtain ⟨hn20, h⟩ := ck_some h
      refine v_aaldN (t := 109) (c := 12) F dX0_freeze_72 (ar_X0_4 hX hp) (Nat.le_of_ble_eq_true rfl) rfl rfl rfl rfl rfl hi17 ex18 fun hr19 => ?_
      have x18p := hr19.resolve_left hn20
      refine v_aload_n F dX0_freeze_73 rfl rfl ?_
      obtain ⟨x21, ex21, h⟩ := lv_some h
      obtain ⟨hn23, h⟩ := ck_some h
      refine gf_X0_42 F dX0_freeze_74 hp ex21 fun hr22 => ?_
      have x21p := hr22.resolve_left hn23
      refine gf_X0_293 F dX0_freeze_77 x21p (v := (x21 + 1)) rfl ?_
      refine v_iconst F dX0_freeze_80 ⟨by decide, by decide⟩ ?_
      refine v_iald F dX0_freeze_81 (ar_X4_0 hX x21p) ⟨by decide, by decide⟩ ?_
      refine v_callVv (c := 12) F dX0_freeze_82 cv_X0_339 rfl (PB.ob x18p hX (Nat.le_of_ble_eq_true rfl)) (Nat.le_of_ble_eq_true rfl) rfl (vm_X13_isAlive x18p) rfl (rOk.of rfl) ?_
      refine v_if_eq F dX0_freeze_85 rfl (fun hq24 => ?_) (fun hq24 => ?_)
      · rw [if_pos hq24] at h
        obtain ⟨x25, ex25, h⟩ := lv_some h
        refine v_iincN F dX0_freeze_102 (Nat.le_of_ble_eq_true rfl) rfl ex25 (L' := [mA 1, mI x25, mI x13]) rfl ?_
        refine v_goto F dX0_freeze_105 rfl ?_
        cases h
        refine v_fgt (L' := [mA 1, mI x25, mU]) ⟨Or.inl rfl, Or.inl rfl, Or.inr rfl, trivial⟩ ?_
        exact K
      · rw [if_neg hq24] at h
        refine v_aload_n F dX0_freeze_88 rfl rfl ?_
        refine v_iload_n F dX0_freeze_89 rfl rfl ?_
        obtain ⟨d26, x28, hc27, h⟩ := b2_some h
        refine v_callVv (c := 0) F dX0_freeze_90 cv_X0_355 rfl (PB.ob hp hX (Nat.le_of_ble_eq_true rfl)) (Nat.le_of_ble_eq_true rfl) rfl (vm_X0_mayVote hp hc27) rfl (rOk.of rfl) ?_
        refine v_if_eq F dX0_freeze_93 rfl (fun hq29 => ?_) (fun hq29 => ?_)
        · rw [if_pos hq29] at h
          obtain ⟨x30, ex30, h⟩ := lv_some h
          refine v_iincN F dX0_freeze_102 (Nat.le_of_ble_eq_true rfl) rfl ex30 (L' := [mA 1, mI x30, mI x13]) rfl ?_
          refine v_goto F dX0_freeze_105 rfl ?_
          cases h
          refine v_fgt (L' := [mA 1, mI x30, mU]) ⟨Or.inl rfl, Or.inl rfl, Or.inr rfl, trivial⟩ ?_
          exact K
        · rw [if_neg hq29] at h
          refine v_aload_n F dX0_freeze_96 rfl rfl ?_
          refine v_iload_n F dX0_freeze_97 rfl rfl ?_
          refine v_iload_n F dX0_freeze_98 rfl rfl ?_
          obtain ⟨d31, hc32, h⟩ := bd_some h
          refine v_callV0 (c := 0) F dX0_freeze_99 cv_X0_396 rfl (PB.ob hp hX (Nat.le_of_ble_eq_true rfl)) (Nat.le_of_ble_eq_true rfl) rfl (vm_X0_enroll hp hc32) rfl (rOk.of rfl) ?_
          obtain ⟨x33, ex33, h⟩ := lv_some h
          refine v_iincN F dX0_freeze_102 (Nat.le_of_ble_eq_true rfl) rfl ex33 (L' := [mA 1, mI x33, mI x13]) rfl ?_
          refine v_goto F dX0_freeze_105 rfl ?_
          cases h
          refine v_fgt (L' := [mA 1, mI x33, mU]) ⟨Or.inl rfl, Or.inl rfl, Or.inr rfl, trivial⟩ ?_
          exact K
theorem fX0_freeze_49_ok {w : Wd} {l : Launch} {G : Cx} {d m dd : Dt} {v1 : Int} {d' : Dt} {r : Int} {x : (Dt × Int)} (F : Fx w G cX0_freeze RX0 3 (some .int) { frames := 8, cells := 0, slots := 0, locals := 184 }) (hX : WF dd m) (hp : PB m 1 0) (h : fX0_freeze_49 d v1 = some x) (K : (fun q => q = (d', r)) x) : V w l WF G (QM w G WF (some (mI r)) d' m 0 0) d m 0 0 49 [mA 1, mI v1, mU] [] := by
  unfold fX0_freeze_49 at h
  exact loop_ok (P := fX0_freeze_49P w l G (QM w G WF (some (mI r)) d' m 0 0) m) (fun s x hx h1 h2 => fX0_freeze_49f_ok F hX hp hx (by
    cases x with
    | inl s' => exact h1 s' rfl
    | inr z => cases h2 z rfl; exact K)) h
theorem vm_X0_freeze {w : Wd} {l : Launch} {d m : Dt} {d' : Dt} {r : Int} (hp : PB m 1 0) (h : fX0_freeze d = some (d', r)) : VM w l WF yX0_freeze cX0_freeze 3 (some .int) 8 184 0 0 d m [mA 1] (some (mI r)) d' m := by
  obtain ⟨x, h, K⟩ : ∃ x, fX0_freeze d = some x ∧ x = (d', r) := ⟨_, h, rfl⟩
  refine VM.of (L := [mA 1, mU, mU]) (by decide +kernel) rfl (Nat.le_of_ble_eq_true rfl) fun G F _ => v_fact fun _ hX _ _ => ?_
  unfold fX0_freeze at h
  refine v_aload_n F dX0_freeze_0 rfl rfl ?_
  refine gf_X0_237 F dX0_freeze_1 hp ?_
  refine v_if_ne F dX0_freeze_4 rfl (fun hq1 => ?_) (fun hq1 => ?_)
  · rw [if_neg hq1] at h
    refine v_aload_n F dX0_freeze_9 rfl rfl ?_
    refine gf_X0_167 F dX0_freeze_10 hp ?_
    refine v_aload_n F dX0_freeze_13 rfl rfl ?_
    obtain ⟨x2, ex2, h⟩ := lv_some h
    obtain ⟨hn4, h⟩ := ck_some h
    refine gf_X0_42 F dX0_freeze_14 hp ex2 fun hr3 => ?_
    have x2p := hr3.resolve_left hn4
    refine gf_X0_293 F dX0_freeze_17 x2p (v := (x2 + 1)) rfl ?_
    refine v_iconst F dX0_freeze_20 ⟨by decide, by decide⟩ ?_
    refine v_iald F dX0_freeze_21 (ar_X4_0 hX x2p) ⟨by decide, by decide⟩ ?_
    refine v_icmp_ge F dX0_freeze_22 rfl (fun hq5 => ?_) (fun hq5 => ?_)
    · rw [if_pos hq5] at h
      refine v_aload_n F dX0_freeze_28 rfl rfl ?_
      refine gf_X0_265 F dX0_freeze_29 hp ?_
      refine v_if_eq F dX0_freeze_32 rfl (fun hq6 => ?_) (fun hq6 => ?_)
      · rw [if_pos hq6] at h
        refine v_aload_n F dX0_freeze_38 rfl rfl ?_
        refine v_iconst F dX0_freeze_39 ⟨by decide, by decide⟩ ?_
        obtain ⟨d7, ed7, h⟩ := sd_some h
        refine pf_X0_265 F dX0_freeze_40 hp (Or.inr rfl) ?_
        refine v_nD ed7 ?_
        refine v_aload_n F dX0_freeze_43 rfl rfl ?_
        obtain ⟨d8, hc9, h⟩ := bd_some h
        refine v_callV0 (c := 0) F dX0_freeze_44 cv_X0_390 rfl (PB.ob hp hX (Nat.le_of_ble_eq_true rfl)) (Nat.le_of_ble_eq_true rfl) rfl (vm_X0_nominate hp hc9) rfl (rOk.of rfl) ?_
        refine v_iconst F dX0_freeze_47 ⟨by decide, by decide⟩ ?_
        refine v_istore_n F dX0_freeze_48 rfl (Nat.le_of_ble_eq_true rfl) (L' := [mA 1, mI 0, mU]) rfl ?_
        exact fX0_freeze_49_ok F hX hp h K
      · rw [if_neg hq6] at h
        refine v_bipush F dX0_freeze_35 rfl ⟨by decide, by decide⟩ ?_
        cases h
        cases (show _ = (d', r) from K)
        exact v_iret F dX0_freeze_37
    · rw [if_neg hq5] at h
      refine v_bipush F dX0_freeze_25 rfl ⟨by decide, by decide⟩ ?_
      cases h
      cases (show _ = (d', r) from K)
      exact v_iret F dX0_freeze_27
  · rw [if_pos hq1] at h
    refine v_iconst F dX0_freeze_7 ⟨by decide, by decide⟩ ?_
    cases h
    cases (show _ = (d', r) from K)
    exact v_iret F dX0_freeze_8
def fX11_sheetOf_16P (w : Wd) (l : Launch) (G : Cx) (Q : State → Prop) (m : Dt) (d : Dt) (a1 v3 : Int) (s : Int × Int) : Prop := V w l WF G Q d m 0 0 16 [mA 1545, mU, mI (s.1), mI v3, mI (s.2)] []
theorem fX11_sheetOf_54_ok {w : Wd} {l : Launch} {G : Cx} {d m dd : Dt} {a1 v3 v4 s0 s1 : Int} {r : Int} {x : ((Int × Int) ⊕ Int)} (F : Fx w G cX11_sheetOf RX11 5 (some .int) { frames := 3, cells := 0, slots := 0, locals := 74 }) (hX : WF dd m) (hp : PB m 1545 11) (h : fX11_sheetOf_54 d a1 v3 v4 s0 s1 = some x) (K : (Sum.elim (fX11_sheetOf_16P w l G (QM w G WF (some (mI r)) d m 0 0) m d a1 v3) (fun q => q = r)) x) : V w l WF G (QM w G WF (some (mI r)) d m 0 0) d m 0 0 54 [mA 1545, mU, mU, mI v3, mI v4] [mI s1, mI s0] := by
  unfold fX11_sheetOf_54 at h
  refine v_ior F dX11_sheetOf_54 ?_
  obtain ⟨x13, ex13, h⟩ := lv_some h
  refine v_nI ex13 ?_
  refine v_istore_n F dX11_sheetOf_55 rfl (Nat.le_of_ble_eq_true rfl) (L' := [mA 1545, mU, mI x13, mI v3, mI v4]) rfl ?_
  obtain ⟨x14, ex14, h⟩ := lv_some h
  refine v_iincN F dX11_sheetOf_56 (Nat.le_of_ble_eq_true rfl) rfl ex14 (L' := [mA 1545, mU, mI x13, mI v3, mI x14]) rfl ?_
  refine v_goto F dX11_sheetOf_59 rfl ?_
  cases h
  exact K
theorem fX11_sheetOf_16f_ok {w : Wd} {l : Launch} {G : Cx} {d m dd : Dt} {a1 v3 : Int} {r : Int} {s : Int × Int} {x : ((Int × Int) ⊕ Int)} (F : Fx w G cX11_sheetOf RX11 5 (some .int) { frames := 3, cells := 0, slots := 0, locals := 74 }) (hX : WF dd m) (hp : PB m 1545 11) (h : fX11_sheetOf_16f d a1 v3 s = some x) (K : (Sum.elim (fX11_sheetOf_16P w l G (QM w G WF (some (mI r)) d m 0 0) m d a1 v3) (fun q => q = r)) x) : V w l WF G (QM w G WF (some (mI r)) d m 0 0) d m 0 0 16 [mA 1545, mU, mI (s.1), mI v3, mI (s.2)] [] := by
  obtain ⟨v2, v4⟩ := s
  unfold fX11_sheetOf_16f at h
  dsimp only at h
  refine v_iload F dX11_sheetOf_16 rfl ?_
  refine v_aload_n F dX11_sheetOf_18 rfl rfl ?_
  refine gf_X11_469 F dX11_sheetOf_19 hp ?_
  refine v_icmp_ge F dX11_sheetOf_22 rfl (fun hq5 => ?_) (fun hq5 => ?_)
  · rw [if_pos hq5] at h
    obtain ⟨z, hu, ez⟩ := up_some h
    clear h
    subst ez
    have h := hu
    clear hu
    refine v_iload_n F dX11_sheetOf_62 rfl rfl ?_
    cases h
    cases (show _ = r from K)
    exact v_iret F dX11_sheetOf_63
  · rw [if_neg hq5] at h
    refine v_iload_n F dX11_sheetOf_25 rfl rfl ?_
    refine v_aload_n F dX11_sheetOf_26 rfl rfl ?_
    refine v_aload_n F dX11_sheetOf_27 rfl rfl ?_
    refine v_iload F dX11_sheetOf_28 rfl ?_
    refine v_iconst F dX11_sheetOf_30 ⟨by decide, by decide⟩ ?_
    obtain ⟨x6, hc7, h⟩ := b1_some h
    refine v_callVv (c := 11) F dX11_sheetOf_31 cv_X11_485 rfl (PB.ob hp hX (Nat.le_of_ble_eq_true rfl)) (Nat.le_of_ble_eq_true rfl) rfl (vm_X11_contestIs hp hc7) rfl (rOk.of rfl) ?_
    refine v_iload_n F dX11_sheetOf_34 rfl rfl ?_
    refine v_aload_n F dX11_sheetOf_35 rfl rfl ?_
    refine v_iconst F dX11_sheetOf_36 ⟨by decide, by decide⟩ ?_
    obtain ⟨x8, hc9, h⟩ := b1_some h
    refine v_callVv (c := 11) F dX11_sheetOf_37 cv_X11_466 rfl (PB.ob hp hX (Nat.le_of_ble_eq_true rfl)) (Nat.le_of_ble_eq_true rfl) rfl (vm_X11_lawIs hp hc9) rfl (rOk.of rfl) ?_
    obtain ⟨x10, hc11, h⟩ := b1_some h
    refine v_callVv (c := 11) F dX11_sheetOf_40 cv_X11_494 rfl (PB.ob hp hX (Nat.le_of_ble_eq_true rfl)) (Nat.le_of_ble_eq_true rfl) rfl (vm_X11_isIn hp hc11) rfl (rOk.of rfl) ?_
    refine v_if_eq F dX11_sheetOf_43 rfl (fun hq12 => ?_) (fun hq12 => ?_)
    · rw [if_pos hq12] at h
      refine v_iconst F dX11_sheetOf_53 ⟨by decide, by decide⟩ ?_
      refine v_fgt (L' := [mA 1545, mU, mU, mI v3, mI v4]) ⟨Or.inl rfl, Or.inl rfl, Or.inr rfl, Or.inl rfl, Or.inl rfl, trivial⟩ ?_
      exact fX11_sheetOf_54_ok F hX hp h K
    · rw [if_neg hq12] at h
      refine v_iconst F dX11_sheetOf_46 ⟨by decide, by decide⟩ ?_
      refine v_iload F dX11_sheetOf_47 rfl ?_
      refine v_ishl F dX11_sheetOf_49 ?_
      refine v_goto F dX11_sheetOf_50 rfl ?_
      refine v_fgt (L' := [mA 1545, mU, mU, mI v3, mI v4]) ⟨Or.inl rfl, Or.inl rfl, Or.inr rfl, Or.inl rfl, Or.inl rfl, trivial⟩ ?_
      exact fX11_sheetOf_54_ok F hX hp h K
theorem fX11_sheetOf_16_ok {w : Wd} {l : Launch} {G : Cx} {d m dd : Dt} {a1 v2 v3 v4 : Int} {r : Int} {x : Int} (F : Fx w G cX11_sheetOf RX11 5 (some .int) { frames := 3, cells := 0, slots := 0, locals := 74 }) (hX : WF dd m) (hp : PB m 1545 11) (h : fX11_sheetOf_16 d a1 v2 v3 v4 = some x) (K : (fun q => q = r) x) : V w l WF G (QM w G WF (some (mI r)) d m 0 0) d m 0 0 16 [mA 1545, mU, mI v2, mI v3, mI v4] [] := by
  unfold fX11_sheetOf_16 at h
  exact loop_ok (P := fX11_sheetOf_16P w l G (QM w G WF (some (mI r)) d m 0 0) m d a1 v3) (fun s x hx h1 h2 => fX11_sheetOf_16f_ok F hX hp hx (by
    cases x with
    | inl s' => exact h1 s' rfl
    | inr z => cases h2 z rfl; exact K)) h
theorem vm_X11_sheetOf {w : Wd} {l : Launch} {d m : Dt} {a1 : Int} {r : Int} (hp : PB m 1545 11) (h : fX11_sheetOf d a1 = some r) : VM w l WF yX11_sheetOf cX11_sheetOf 5 (some .int) 3 74 0 0 d m [mA 1545, mI a1] (some (mI r)) d m := by
  obtain ⟨x, h, K⟩ : ∃ x, fX11_sheetOf d a1 = some x ∧ x = r := ⟨_, h, rfl⟩
  refine VM.of (L := [mA 1545, mI a1, mU, mU, mU]) (by decide +kernel) rfl (Nat.le_of_ble_eq_true rfl) fun G F _ => v_fact fun _ hX _ _ => ?_
  unfold fX11_sheetOf at h
  refine v_iconst F dX11_sheetOf_0 ⟨by decide, by decide⟩ ?_
  refine v_istore_n F dX11_sheetOf_1 rfl (Nat.le_of_ble_eq_true rfl) (L' := [mA 1545, mI a1, mI 0, mU, mU]) rfl ?_
  refine v_aload_n F dX11_sheetOf_2 rfl rfl ?_
  refine v_iload_n F dX11_sheetOf_3 rfl rfl ?_
  refine v_aload_n F dX11_sheetOf_4 rfl rfl ?_
  refine v_iconst F dX11_sheetOf_5 ⟨by decide, by decide⟩ ?_
  obtain ⟨x1, hc2, h⟩ := b1_some h
  refine v_callVv (c := 11) F dX11_sheetOf_6 cv_X11_466 rfl (PB.ob hp hX (Nat.le_of_ble_eq_true rfl)) (Nat.le_of_ble_eq_true rfl) rfl (vm_X11_lawIs hp hc2) rfl (rOk.of rfl) ?_
  obtain ⟨x3, hc4, h⟩ := b1_some h
  refine v_callVv (c := 11) F dX11_sheetOf_9 cv_X11_151 rfl (PB.ob hp hX (Nat.le_of_ble_eq_true rfl)) (Nat.le_of_ble_eq_true rfl) rfl (vm_X11_addressOn hp hc4) rfl (rOk.of rfl) ?_
  refine v_istore_n F dX11_sheetOf_12 rfl (Nat.le_of_ble_eq_true rfl) (L' := [mA 1545, mI a1, mI 0, mI x3, mU]) rfl ?_
  refine v_iconst F dX11_sheetOf_13 ⟨by decide, by decide⟩ ?_
  refine v_istore F dX11_sheetOf_14 (Nat.le_of_ble_eq_true rfl) (L' := [mA 1545, mI a1, mI 0, mI x3, mI 0]) rfl ?_
  refine v_fgt (L' := [mA 1545, mU, mI 0, mI x3, mI 0]) ⟨Or.inl rfl, Or.inr rfl, Or.inl rfl, Or.inl rfl, Or.inl rfl, trivial⟩ ?_
  exact fX11_sheetOf_16_ok F hX hp h K
theorem vm_X11_addRow {w : Wd} {l : Launch} {d m : Dt} {a1 a2 : Int} {d' : Dt} (hp : PB m 1545 11) (h : fX11_addRow d a1 a2 = some d') : VM w l WF yX11_addRow cX11_addRow 3 none 0 0 0 0 d m [mA 1545, mI a1, mI a2] none d' m := by
  obtain ⟨x, h, K⟩ : ∃ x, fX11_addRow d a1 a2 = some x ∧ x = d' := ⟨_, h, rfl⟩
  refine VM.of (L := [mA 1545, mI a1, mI a2]) (by decide +kernel) rfl (Nat.le_of_ble_eq_true rfl) fun G F _ => v_fact fun _ hX _ _ => ?_
  unfold fX11_addRow at h
  refine v_aload_n F dX11_addRow_0 rfl rfl ?_
  refine gf_X11_599 F dX11_addRow_1 hp (v := 1595) rfl ?_
  refine v_aload_n F dX11_addRow_4 rfl rfl ?_
  refine gf_X11_534 F dX11_addRow_5 hp ?_
  refine v_iload_n F dX11_addRow_8 rfl rfl ?_
  obtain ⟨x1, ex1, h⟩ := lv_some h
  refine v_n2 ex1 ?_
  obtain ⟨hi2, h⟩ := ck_some h
  obtain ⟨d3, ed3, h⟩ := sd_some h
  refine v_iast F dX11_addRow_9 (ar_X11_72 hX hp) hi2 ?_
  refine v_nD ed3 ?_
  refine v_aload_n F dX11_addRow_10 rfl rfl ?_
  refine gf_X11_602 F dX11_addRow_11 hp (v := 1596) rfl ?_
  refine v_aload_n F dX11_addRow_14 rfl rfl ?_
  refine gf_X11_534 F dX11_addRow_15 hp ?_
  refine v_iload_n F dX11_addRow_18 rfl rfl ?_
  obtain ⟨x4, ex4, h⟩ := lv_some h
  refine v_n2 ex4 ?_
  obtain ⟨hi5, h⟩ := ck_some h
  obtain ⟨d6, ed6, h⟩ := sd_some h
  refine v_iast F dX11_addRow_19 (ar_X11_73 hX hp) hi5 ?_
  refine v_nD ed6 ?_
  refine v_aload_n F dX11_addRow_20 rfl rfl ?_
  refine gf_X11_605 F dX11_addRow_21 hp (v := 1597) rfl ?_
  refine v_aload_n F dX11_addRow_24 rfl rfl ?_
  refine gf_X11_534 F dX11_addRow_25 hp ?_
  refine v_iconst F dX11_addRow_28 ⟨by decide, by decide⟩ ?_
  obtain ⟨x7, ex7, h⟩ := lv_some h
  refine v_n2 ex7 ?_
  obtain ⟨hi8, h⟩ := ck_some h
  obtain ⟨d9, ed9, h⟩ := sd_some h
  refine v_zast F dX11_addRow_29 (ar_X11_74 hX hp) hi8 ?_
  refine v_nD ed9 ?_
  refine v_aload_n F dX11_addRow_30 rfl rfl ?_
  refine v_dup_A F dX11_addRow_31 ?_
  refine gf_X11_534 F dX11_addRow_32 hp ?_
  refine v_iconst F dX11_addRow_35 ⟨by decide, by decide⟩ ?_
  refine v_iadd F dX11_addRow_36 ?_
  obtain ⟨d10, ed10, h⟩ := sd_some h
  refine pf_X11_534 F dX11_addRow_37 hp ?_
  refine v_nD ed10 ?_
  cases h
  cases (show _ = d' from K)
  exact v_vret F dX11_addRow_40
def fX11_freeze_41P (w : Wd) (l : Launch) (G : Cx) (Q : State → Prop) (m : Dt) (s : Dt × Int) : Prop := V w l WF G Q s.1 m 0 0 41 [mA 1545, mI (s.2), mU, mU] []
def fX11_freeze_208P (w : Wd) (l : Launch) (G : Cx) (Q : State → Prop) (m : Dt) (s : Dt × Int) : Prop := V w l WF G Q s.1 m 0 0 208 [mA 1545, mI (s.2), mU, mU] []
theorem fX11_freeze_247_ok {w : Wd} {l : Launch} {G : Cx} {d m dd : Dt} {v1 s0 : Int} {d' : Dt} {r : Int} {x : ((Dt × Int) ⊕ (Dt × Int))} (F : Fx w G cX11_freeze RX11 4 (some .int) { frames := 6, cells := 0, slots := 0, locals := 144 }) (hX : WF dd m) (hp : PB m 1545 11) (h : fX11_freeze_247 d v1 s0 = some x) (K : (Sum.elim (fX11_freeze_208P w l G (QM w G WF (some (mI r)) d' m 0 0) m) (fun q => q = (d', r))) x) : V w l WF G (QM w G WF (some (mI r)) d' m 0 0) d m 0 0 247 [mA 1545, mI v1, mU, mU] [mI s0] := by
  unfold fX11_freeze_247 at h
  refine v_istore_n F dX11_freeze_247 rfl (Nat.le_of_ble_eq_true rfl) (L' := [mA 1545, mI v1, mI s0, mU]) rfl ?_
  refine v_iload_n F dX11_freeze_248 rfl rfl ?_
  refine v_if_eq F dX11_freeze_249 rfl (fun hq16 => ?_) (fun hq16 => ?_)
  · rw [if_pos hq16] at h
    obtain ⟨x17, ex17, h⟩ := lv_some h
    refine v_iincN F dX11_freeze_258 (Nat.le_of_ble_eq_true rfl) rfl ex17 (L' := [mA 1545, mI x17, mI s0, mU]) rfl ?_
    refine v_goto F dX11_freeze_261 rfl ?_
    cases h
    refine v_fgt (L' := [mA 1545, mI x17, mU, mU]) ⟨Or.inl rfl, Or.inl rfl, Or.inr rfl, Or.inl rfl, trivial⟩ ?_
    exact K
  · rw [if_neg hq16] at h
    refine v_aload_n F dX11_freeze_252 rfl rfl ?_
    refine v_iload_n F dX11_freeze_253 rfl rfl ?_
    refine v_iload_n F dX11_freeze_254 rfl rfl ?_
    obtain ⟨d18, hc19, h⟩ := bd_some h
    refine v_callV0 (c := 11) F dX11_freeze_255 cv_X11_620 rfl (PB.ob hp hX (Nat.le_of_ble_eq_true rfl)) (Nat.le_of_ble_eq_true rfl) rfl (vm_X11_addRow hp hc19) rfl (rOk.of rfl) ?_
    obtain ⟨x20, ex20, h⟩ := lv_some h
    refine v_iincN F dX11_freeze_258 (Nat.le_of_ble_eq_true rfl) rfl ex20 (L' := [mA 1545, mI x20, mI s0, mU]) rfl ?_
    refine v_goto F dX11_freeze_261 rfl ?_
    cases h
    refine v_fgt (L' := [mA 1545, mI x20, mU, mU]) ⟨Or.inl rfl, Or.inl rfl, Or.inr rfl, Or.inl rfl, trivial⟩ ?_
    exact K
theorem fX11_freeze_208f_ok {w : Wd} {l : Launch} {G : Cx} {m dd : Dt} {d' : Dt} {r : Int} {s : Dt × Int} {x : ((Dt × Int) ⊕ (Dt × Int))} (F : Fx w G cX11_freeze RX11 4 (some .int) { frames := 6, cells := 0, slots := 0, locals := 144 }) (hX : WF dd m) (hp : PB m 1545 11) (h : fX11_freeze_208f s = some x) (K : (Sum.elim (fX11_freeze_208P w l G (QM w G WF (some (mI r)) d' m 0 0) m) (fun q => q = (d', r))) x) : V w l WF G (QM w G WF (some (mI r)) d' m 0 0) s.1 m 0 0 208 [mA 1545, mI (s.2), mU, mU] [] := by
  obtain ⟨d, v1⟩ := s
  unfold fX11_freeze_208f at h
  dsimp only at h
  refine v_iload_n F dX11_freeze_208 rfl rfl ?_
  refine v_aload_n F dX11_freeze_209 rfl rfl ?_
  refine gf_X11_92 F dX11_freeze_210 hp ?_
  refine v_icmp_ge F dX11_freeze_213 rfl (fun hq8 => ?_) (fun hq8 => ?_)
  · rw [if_pos hq8] at h
    obtain ⟨z, hu, ez⟩ := up_some h
    clear h
    subst ez
    have h := hu
    clear hu
    refine v_aload_n F dX11_freeze_264 rfl rfl ?_
    refine v_bipush F dX11_freeze_265 rfl ⟨by decide, by decide⟩ ?_
    refine v_iconst F dX11_freeze_267 ⟨by decide, by decide⟩ ?_
    refine v_iconst F dX11_freeze_268 ⟨by decide, by decide⟩ ?_
    refine v_iconst F dX11_freeze_269 ⟨by decide, by decide⟩ ?_
    refine v_iconst F dX11_freeze_270 ⟨by decide, by decide⟩ ?_
    obtain ⟨d9, hc10, h⟩ := bd_some h
    refine v_callV0 (c := 11) F dX11_freeze_271 cv_X11_22 rfl (PB.ob hp hX (Nat.le_of_ble_eq_true rfl)) (Nat.le_of_ble_eq_true rfl) rfl (vm_X11_write hp hc10) rfl (rOk.of rfl) ?_
    refine v_aload_n F dX11_freeze_274 rfl rfl ?_
    refine gf_X11_534 F dX11_freeze_275 hp ?_
    cases h
    cases (show _ = (d', r) from K)
    exact v_iret F dX11_freeze_278
  · rw [if_neg hq8] at h
    refine v_aload_n F dX11_freeze_216 rfl rfl ?_
    refine v_iload_n F dX11_freeze_217 rfl rfl ?_
    refine v_aload_n F dX11_freeze_218 rfl rfl ?_
    refine v_iconst F dX11_freeze_219 ⟨by decide, by decide⟩ ?_
    obtain ⟨x11, hc12, h⟩ := b1_some h
    refine v_callVv (c := 11) F dX11_freeze_220 cv_X11_466 rfl (PB.ob hp hX (Nat.le_of_ble_eq_true rfl)) (Nat.le_of_ble_eq_true rfl) rfl (vm_X11_lawIs hp hc12) rfl (rOk.of rfl) ?_
    obtain ⟨x13, hc14, h⟩ := b1_some h
    refine v_callVv (c := 11) F dX11_freeze_223 cv_X11_581 rfl (PB.ob hp hX (Nat.le_of_ble_eq_true rfl)) (Nat.le_of_ble_eq_true rfl) rfl (vm_X11_isAlive hp hc14) rfl (rOk.of rfl) ?_
    refine v_if_eq F dX11_freeze_226 rfl (fun hq15 => ?_) (fun hq15 => ?_)
    · rw [if_pos hq15] at h
      refine v_iconst F dX11_freeze_246 ⟨by decide, by decide⟩ ?_
      exact fX11_freeze_247_ok F hX hp h K
    · rw [if_neg hq15] at h
      refine v_aload_n F dX11_freeze_229 rfl rfl ?_
      refine v_iload_n F dX11_freeze_230 rfl rfl ?_
      refine v_iconst F dX11_freeze_231 ⟨by decide, by decide⟩ ?_
      obtain ⟨d21, x23, hc22, h⟩ := b2_some h
      refine v_callVv (c := 11) F dX11_freeze_232 cv_X11_524 rfl (PB.ob hp hX (Nat.le_of_ble_eq_true rfl)) (Nat.le_of_ble_eq_true rfl) rfl (vm_X11_lets hp hc22) rfl (rOk.of rfl) ?_
      refine v_if_eq F dX11_freeze_235 rfl (fun hq24 => ?_) (fun hq24 => ?_)
      · rw [if_pos hq24] at h
        refine v_iconst F dX11_freeze_246 ⟨by decide, by decide⟩ ?_
        exact fX11_freeze_247_ok F hX hp h K
      · rw [if_neg hq24] at h
        refine v_aload_n F dX11_freeze_238 rfl rfl ?_
        refine v_iload_n F dX11_freeze_239 rfl rfl ?_
        obtain ⟨x25, hc26, h⟩ := b1_some h
        refine v_callVv (c := 11) F dX11_freeze_240 cv_X11_617 rfl (PB.ob hp hX (Nat.le_of_ble_eq_true rfl)) (Nat.le_of_ble_eq_true rfl) rfl (vm_X11_sheetOf hp hc26) rfl (rOk.of rfl) ?_
        refine v_goto F dX11_freeze_243 rfl ?_
        exact fX11_freeze_247_ok F hX hp h K
theorem fX11_freeze_208_ok {w : Wd} {l : Launch} {G : Cx} {d m dd : Dt} {v1 : Int} {d' : Dt} {r : Int} {x : (Dt × Int)} (F : Fx w G cX11_freeze RX11 4 (some .int) { frames := 6, cells := 0, slots := 0, locals := 144 }) (hX : WF dd m) (hp : PB m 1545 11) (h : fX11_freeze_208 d v1 = some x) (K : (fun q => q = (d', r)) x) : V w l WF G (QM w G WF (some (mI r)) d' m 0 0) d m 0 0 208 [mA 1545, mI v1, mU, mU] [] := by
  unfold fX11_freeze_208 at h
  exact loop_ok (P := fX11_freeze_208P w l G (QM w G WF (some (mI r)) d' m 0 0) m) (fun s x hx h1 h2 => fX11_freeze_208f_ok F hX hp hx (by
    cases x with
    | inl s' => exact h1 s' rfl
    | inr z => cases h2 z rfl; exact K)) h
theorem fX11_freeze_107_ok {w : Wd} {l : Launch} {G : Cx} {d m dd : Dt} {v1 s1 s2 : Int} {d' : Dt} {r : Int} {x : ((Dt × Int) ⊕ (Dt × Int))} (F : Fx w G cX11_freeze RX11 4 (some .int) { frames := 6, cells := 0, slots := 0, locals := 144 }) (hX : WF dd m) (hp : PB m 1545 11) (h : fX11_freeze_107 d v1 s1 s2 = some x) (K : (Sum.elim (fX11_freeze_41P w l G (QM w G WF (some (mI r)) d' m 0 0) m) (fun q => q = (d', r))) x) : V w l WF G (QM w G WF (some (mI r)) d' m 0 0) d m 0 0 107 [mA 1545, mI v1, mU, mU] [mI s2, mI s1, mA 1586] := by
  unfold fX11_freeze_107 at h
  obtain ⟨hi35, h⟩ := ck_some h
  obtain ⟨d36, ed36, h⟩ := sd_some h
  refine v_iast F dX11_freeze_107 (ar_X11_61 hX hp) hi35 ?_
  refine v_nD ed36 ?_
  refine v_aload_n F dX11_freeze_108 rfl rfl ?_
  refine gf_X11_590 F dX11_freeze_109 hp (v := 1586) rfl ?_
  refine v_iload_n F dX11_freeze_112 rfl rfl ?_
  obtain ⟨hi37, h⟩ := ck_some h
  refine v_iald F dX11_freeze_113 (ar_X11_61 hX hp) hi37 ?_
  refine v_iconst F dX11_freeze_114 ⟨by decide, by decide⟩ ?_
  refine v_icmp_eq F dX11_freeze_115 rfl (fun hq38 => ?_) (fun hq38 => ?_)
  · rw [if_pos hq38] at h
    refine v_aload_n F dX11_freeze_121 rfl rfl ?_
    refine gf_X11_575 F dX11_freeze_122 hp (v := 1582) rfl ?_
    refine v_iload_n F dX11_freeze_125 rfl rfl ?_
    refine v_iald F dX11_freeze_126 (ar_X11_57 hX hp) hi37 ?_
    obtain ⟨x39, ex39, h⟩ := lv_some h
    refine v_nI ex39 ?_
    refine v_istore_n F dX11_freeze_127 rfl (Nat.le_of_ble_eq_true rfl) (L' := [mA 1545, mI v1, mI x39, mU]) rfl ?_
    refine v_aload_n F dX11_freeze_128 rfl rfl ?_
    refine gf_X11_488 F dX11_freeze_129 hp (v := 1589) rfl ?_
    refine v_iload_n F dX11_freeze_132 rfl rfl ?_
    obtain ⟨hi40, h⟩ := ck_some h
    refine v_iald F dX11_freeze_133 (ar_X11_65 hX hp) hi40 ?_
    obtain ⟨x41, ex41, h⟩ := lv_some h
    refine v_nI ex41 ?_
    refine v_istore_n F dX11_freeze_134 rfl (Nat.le_of_ble_eq_true rfl) (L' := [mA 1545, mI v1, mI x39, mI x41]) rfl ?_
    refine v_aload_n F dX11_freeze_135 rfl rfl ?_
    refine gf_X11_488 F dX11_freeze_136 hp (v := 1589) rfl ?_
    refine v_iload_n F dX11_freeze_139 rfl rfl ?_
    refine v_dup2_IA F dX11_freeze_140 ?_
    refine v_iald F dX11_freeze_141 (ar_X11_65 hX hp) hi40 ?_
    refine v_iconst F dX11_freeze_142 ⟨by decide, by decide⟩ ?_
    refine v_iadd F dX11_freeze_143 ?_
    obtain ⟨d42, ed42, h⟩ := sd_some h
    refine v_iast F dX11_freeze_144 (ar_X11_65 hX hp) hi40 ?_
    refine v_nD ed42 ?_
    refine v_aload_n F dX11_freeze_145 rfl rfl ?_
    refine gf_X11_593 F dX11_freeze_146 hp (v := 1587) rfl ?_
    refine v_iload_n F dX11_freeze_149 rfl rfl ?_
    refine v_iload_n F dX11_freeze_150 rfl rfl ?_
    obtain ⟨d43, ed43, h⟩ := sd_some h
    refine v_iast F dX11_freeze_151 (ar_X11_62 hX hp) hi37 ?_
    refine v_nD ed43 ?_
    refine v_aload_n F dX11_freeze_152 rfl rfl ?_
    refine gf_X11_608 F dX11_freeze_153 hp (v := 1590) rfl ?_
    refine v_bipush F dX11_freeze_156 rfl ⟨by decide, by decide⟩ ?_
    refine v_iload_n F dX11_freeze_158 rfl rfl ?_
    refine v_imul F dX11_freeze_159 ?_
    refine v_iload_n F dX11_freeze_160 rfl rfl ?_
    refine v_iadd F dX11_freeze_161 ?_
    refine v_iload_n F dX11_freeze_162 rfl rfl ?_
    obtain ⟨x44, ex44, h⟩ := lv_some h
    refine v_n2 ex44 ?_
    obtain ⟨hi45, h⟩ := ck_some h
    obtain ⟨d46, ed46, h⟩ := sd_some h
    refine v_iast F dX11_freeze_163 (ar_X11_66 hX hp) hi45 ?_
    refine v_nD ed46 ?_
    refine v_aload_n F dX11_freeze_164 rfl rfl ?_
    refine gf_X11_567 F dX11_freeze_165 hp (v := 1591) rfl ?_
    refine v_bipush F dX11_freeze_168 rfl ⟨by decide, by decide⟩ ?_
    refine v_iload_n F dX11_freeze_170 rfl rfl ?_
    refine v_imul F dX11_freeze_171 ?_
    refine v_iload_n F dX11_freeze_172 rfl rfl ?_
    refine v_iadd F dX11_freeze_173 ?_
    refine v_iconst F dX11_freeze_174 ⟨by decide, by decide⟩ ?_
    obtain ⟨x47, ex47, h⟩ := lv_some h
    refine v_n2 ex47 ?_
    obtain ⟨hi48, h⟩ := ck_some h
    obtain ⟨d49, ed49, h⟩ := sd_some h
    refine v_zast F dX11_freeze_175 (ar_X11_67 hX hp) hi48 ?_
    refine v_nD ed49 ?_
    refine v_aload_n F dX11_freeze_176 rfl rfl ?_
    refine gf_X11_611 F dX11_freeze_177 hp (v := 1592) rfl ?_
    refine v_bipush F dX11_freeze_180 rfl ⟨by decide, by decide⟩ ?_
    refine v_iload_n F dX11_freeze_182 rfl rfl ?_
    refine v_imul F dX11_freeze_183 ?_
    refine v_iload_n F dX11_freeze_184 rfl rfl ?_
    refine v_iadd F dX11_freeze_185 ?_
    refine v_iload_n F dX11_freeze_186 rfl rfl ?_
    obtain ⟨x50, ex50, h⟩ := lv_some h
    refine v_n2 ex50 ?_
    obtain ⟨hi51, h⟩ := ck_some h
    obtain ⟨d52, ed52, h⟩ := sd_some h
    refine v_iast F dX11_freeze_187 (ar_X11_68 hX hp) hi51 ?_
    refine v_nD ed52 ?_
    refine v_aload_n F dX11_freeze_188 rfl rfl ?_
    refine gf_X11_614 F dX11_freeze_189 hp (v := 1593) rfl ?_
    refine v_bipush F dX11_freeze_192 rfl ⟨by decide, by decide⟩ ?_
    refine v_iload_n F dX11_freeze_194 rfl rfl ?_
    refine v_imul F dX11_freeze_195 ?_
    refine v_iload_n F dX11_freeze_196 rfl rfl ?_
    refine v_iadd F dX11_freeze_197 ?_
    refine v_iload_n F dX11_freeze_198 rfl rfl ?_
    obtain ⟨x53, ex53, h⟩ := lv_some h
    refine v_n2 ex53 ?_
    obtain ⟨hi54, h⟩ := ck_some h
    obtain ⟨d55, ed55, h⟩ := sd_some h
    refine v_iast F dX11_freeze_199 (ar_X11_69 hX hp) hi54 ?_
    refine v_nD ed55 ?_
    obtain ⟨x56, ex56, h⟩ := lv_some h
    refine v_iincN F dX11_freeze_200 (Nat.le_of_ble_eq_true rfl) rfl ex56 (L' := [mA 1545, mI x56, mI x39, mI x41]) rfl ?_
    refine v_goto F dX11_freeze_203 rfl ?_
    cases h
    refine v_fgt (L' := [mA 1545, mI x56, mU, mU]) ⟨Or.inl rfl, Or.inl rfl, Or.inr rfl, Or.inr rfl, trivial⟩ ?_
    exact K
  · rw [if_neg hq38] at h
    refine v_goto F dX11_freeze_118 rfl ?_
    obtain ⟨x57, ex57, h⟩ := lv_some h
    refine v_iincN F dX11_freeze_200 (Nat.le_of_ble_eq_true rfl) rfl ex57 (L' := [mA 1545, mI x57, mU, mU]) rfl ?_
    refine v_goto F dX11_freeze_203 rfl ?_
    cases h
    exact K
theorem fX11_freeze_41f_ok {w : Wd} {l : Launch} {G : Cx} {m dd : Dt} {d' : Dt} {r : Int} {s : Dt × Int} {x : ((Dt × Int) ⊕ (Dt × Int))} (F : Fx w G cX11_freeze RX11 4 (some .int) { frames := 6, cells := 0, slots := 0, locals := 144 }) (hX : WF dd m) (hp : PB m 1545 11) (h : fX11_freeze_41f s = some x) (K : (Sum.elim (fX11_freeze_41P w l G (QM w G WF (some (mI r)) d' m 0 0) m) (fun q => q = (d', r))) x) : V w l WF G (QM w G WF (some (mI r)) d' m 0 0) s.1 m 0 0 41 [mA 1545, mI (s.2), mU, mU] [] := by
  obtain ⟨d, v1⟩ := s
  unfold fX11_freeze_41f at h
  dsimp only at h
  refine v_iload_n F dX11_freeze_41 rfl rfl ?_
  refine v_aload_n F dX11_freeze_42 rfl rfl ?_
  refine gf_X11_528 F dX11_freeze_43 hp ?_
  refine v_icmp_ge F dX11_freeze_46 rfl (fun hq7 => ?_) (fun hq7 => ?_)
  · rw [if_pos hq7] at h
    obtain ⟨z, hu, ez⟩ := up_some h
    clear h
    subst ez
    have h := hu
    clear hu
    refine v_iconst F dX11_freeze_206 ⟨by decide, by decide⟩ ?_
    refine v_istore_n F dX11_freeze_207 rfl (Nat.le_of_ble_eq_true rfl) (L' := [mA 1545, mI 0, mU, mU]) rfl ?_
    exact fX11_freeze_208_ok F hX hp h K
  · rw [if_neg hq7] at h
    refine v_aload_n F dX11_freeze_49 rfl rfl ?_
    refine gf_X11_590 F dX11_freeze_50 hp (v := 1586) rfl ?_
    refine v_iload_n F dX11_freeze_53 rfl rfl ?_
    obtain ⟨hi27, h⟩ := ck_some h
    refine v_iald F dX11_freeze_54 (ar_X11_61 hX hp) hi27 ?_
    refine v_iconst F dX11_freeze_55 ⟨by decide, by decide⟩ ?_
    refine v_icmp_ne F dX11_freeze_56 rfl (fun hq28 => ?_) (fun hq28 => ?_)
    · rw [if_neg hq28] at h
      refine v_aload_n F dX11_freeze_62 rfl rfl ?_
      refine gf_X11_590 F dX11_freeze_63 hp (v := 1586) rfl ?_
      refine v_iload_n F dX11_freeze_66 rfl rfl ?_
      refine v_aload_n F dX11_freeze_67 rfl rfl ?_
      refine v_aload_n F dX11_freeze_68 rfl rfl ?_
      refine gf_X11_578 F dX11_freeze_69 hp (v := 1583) rfl ?_
      refine v_iload_n F dX11_freeze_72 rfl rfl ?_
      refine v_iald F dX11_freeze_73 (ar_X11_58 hX hp) hi27 ?_
      refine v_aload_n F dX11_freeze_74 rfl rfl ?_
      refine gf_X11_17 F dX11_freeze_75 hp ?_
      obtain ⟨x29, hc30, h⟩ := b1_some h
      refine v_callVv (c := 11) F dX11_freeze_78 cv_X11_581 rfl (PB.ob hp hX (Nat.le_of_ble_eq_true rfl)) (Nat.le_of_ble_eq_true rfl) rfl (vm_X11_isAlive hp hc30) rfl (rOk.of rfl) ?_
      refine v_if_ne F dX11_freeze_81 rfl (fun hq31 => ?_) (fun hq31 => ?_)
      · rw [if_neg hq31] at h
        refine v_aload_n F dX11_freeze_88 rfl rfl ?_
        refine gf_X11_587 F dX11_freeze_89 hp (v := 1585) rfl ?_
        refine v_iload_n F dX11_freeze_92 rfl rfl ?_
        refine v_iald F dX11_freeze_93 (ar_X11_60 hX hp) hi27 ?_
        refine v_aload_n F dX11_freeze_94 rfl rfl ?_
        refine v_iconst F dX11_freeze_95 ⟨by decide, by decide⟩ ?_
        obtain ⟨x32, hc33, h⟩ := b1_some h
        refine v_callVv (c := 11) F dX11_freeze_96 cv_X11_466 rfl (PB.ob hp hX (Nat.le_of_ble_eq_true rfl)) (Nat.le_of_ble_eq_true rfl) rfl (vm_X11_lawIs hp hc33) rfl (rOk.of rfl) ?_
        refine v_icmp_ge F dX11_freeze_99 rfl (fun hq34 => ?_) (fun hq34 => ?_)
        · rw [if_pos hq34] at h
          refine v_iconst F dX11_freeze_106 ⟨by decide, by decide⟩ ?_
          exact fX11_freeze_107_ok F hX hp h K
        · rw [if_neg hq34] at h
          refine v_iconst F dX11_freeze_102 ⟨by decide, by decide⟩ ?_
          refine v_goto F dX11_freeze_103 rfl ?_
          exact fX11_freeze_107_ok F hX hp h K
      · rw [if_pos hq31] at h
        refine v_iconst F dX11_freeze_84 ⟨by decide, by decide⟩ ?_
        refine v_goto F dX11_freeze_85 rfl ?_
        exact fX11_freeze_107_ok F hX hp h K
    · rw [if_pos hq28] at h
      refine v_goto F dX11_freeze_59 rfl ?_
      obtain ⟨x58, ex58, h⟩ := lv_some h
      refine v_iincN F dX11_freeze_200 (Nat.le_of_ble_eq_true rfl) rfl ex58 (L' := [mA 1545, mI x58, mU, mU]) rfl ?_
      refine v_goto F dX11_freeze_203 rfl ?_
      cases h
      exact K
theorem fX11_freeze_41_ok {w : Wd} {l : Launch} {G : Cx} {d m dd : Dt} {v1 : Int} {d' : Dt} {r : Int} {x : (Dt × Int)} (F : Fx w G cX11_freeze RX11 4 (some .int) { frames := 6, cells := 0, slots := 0, locals := 144 }) (hX : WF dd m) (hp : PB m 1545 11) (h : fX11_freeze_41 d v1 = some x) (K : (fun q => q = (d', r)) x) : V w l WF G (QM w G WF (some (mI r)) d' m 0 0) d m 0 0 41 [mA 1545, mI v1, mU, mU] [] := by
  unfold fX11_freeze_41 at h
  exact loop_ok (P := fX11_freeze_41P w l G (QM w G WF (some (mI r)) d' m 0 0) m) (fun s x hx h1 h2 => fX11_freeze_41f_ok F hX hp hx (by
    cases x with
    | inl s' => exact h1 s' rfl
    | inr z => cases h2 z rfl; exact K)) h
theorem vm_X11_freeze {w : Wd} {l : Launch} {d m : Dt} {d' : Dt} {r : Int} (hp : PB m 1545 11) (h : fX11_freeze d = some (d', r)) : VM w l WF yX11_freeze cX11_freeze 4 (some .int) 6 144 0 0 d m [mA 1545] (some (mI r)) d' m := by
  obtain ⟨x, h, K⟩ : ∃ x, fX11_freeze d = some x ∧ x = (d', r) := ⟨_, h, rfl⟩
  refine VM.of (L := [mA 1545, mU, mU, mU]) (by decide +kernel) rfl (Nat.le_of_ble_eq_true rfl) fun G F _ => v_fact fun _ hX _ _ => ?_
  unfold fX11_freeze at h
  refine v_aload_n F dX11_freeze_0 rfl rfl ?_
  refine gf_X11_141 F dX11_freeze_1 hp ?_
  refine v_if_ne F dX11_freeze_4 rfl (fun hq1 => ?_) (fun hq1 => ?_)
  · rw [if_neg hq1] at h
    refine v_aload_n F dX11_freeze_9 rfl rfl ?_
    refine gf_X11_17 F dX11_freeze_10 hp ?_
    refine v_aload_n F dX11_freeze_13 rfl rfl ?_
    refine v_iconst F dX11_freeze_14 ⟨by decide, by decide⟩ ?_
    obtain ⟨x2, hc3, h⟩ := b1_some h
    refine v_callVv (c := 11) F dX11_freeze_15 cv_X11_466 rfl (PB.ob hp hX (Nat.le_of_ble_eq_true rfl)) (Nat.le_of_ble_eq_true rfl) rfl (vm_X11_lawIs hp hc3) rfl (rOk.of rfl) ?_
    refine v_icmp_ge F dX11_freeze_18 rfl (fun hq4 => ?_) (fun hq4 => ?_)
    · rw [if_pos hq4] at h
      refine v_aload_n F dX11_freeze_24 rfl rfl ?_
      refine gf_X11_531 F dX11_freeze_25 hp ?_
      refine v_if_eq F dX11_freeze_28 rfl (fun hq5 => ?_) (fun hq5 => ?_)
      · rw [if_pos hq5] at h
        refine v_aload_n F dX11_freeze_34 rfl rfl ?_
        refine v_iconst F dX11_freeze_35 ⟨by decide, by decide⟩ ?_
        obtain ⟨d6, ed6, h⟩ := sd_some h
        refine pf_X11_531 F dX11_freeze_36 hp (Or.inr rfl) ?_
        refine v_nD ed6 ?_
        refine v_iconst F dX11_freeze_39 ⟨by decide, by decide⟩ ?_
        refine v_istore_n F dX11_freeze_40 rfl (Nat.le_of_ble_eq_true rfl) (L' := [mA 1545, mI 0, mU, mU]) rfl ?_
        exact fX11_freeze_41_ok F hX hp h K
      · rw [if_neg hq5] at h
        refine v_bipush F dX11_freeze_31 rfl ⟨by decide, by decide⟩ ?_
        cases h
        cases (show _ = (d', r) from K)
        exact v_iret F dX11_freeze_33
    · rw [if_neg hq4] at h
      refine v_bipush F dX11_freeze_21 rfl ⟨by decide, by decide⟩ ?_
      cases h
      cases (show _ = (d', r) from K)
      exact v_iret F dX11_freeze_23
  · rw [if_pos hq1] at h
    refine v_iconst F dX11_freeze_7 ⟨by decide, by decide⟩ ?_
    cases h
    cases (show _ = (d', r) from K)
    exact v_iret F dX11_freeze_8
theorem vm_X0_roll {w : Wd} {l : Launch} {d m : Dt} {a1 a2 : Int} {r : Int} (hp : PB m 1 0) (h : fX0_roll d a1 a2 = some r) : VM w l WF yX0_roll cX0_roll 3 (some .int) 1 22 0 0 d m [mA 1, mI a1, mI a2] (some (mI r)) d m := by
  obtain ⟨x, h, K⟩ : ∃ x, fX0_roll d a1 a2 = some x ∧ x = r := ⟨_, h, rfl⟩
  refine VM.of (L := [mA 1, mI a1, mI a2]) (by decide +kernel) rfl (Nat.le_of_ble_eq_true rfl) fun G F _ => v_fact fun _ hX _ _ => ?_
  unfold fX0_roll at h
  refine v_iload_n F dX0_roll_0 rfl rfl ?_
  refine v_iconst F dX0_roll_1 ⟨by decide, by decide⟩ ?_
  refine v_aload_n F dX0_roll_2 rfl rfl ?_
  refine gf_X0_268 F dX0_roll_3 hp ?_
  refine v_iconst F dX0_roll_6 ⟨by decide, by decide⟩ ?_
  refine v_isub F dX0_roll_7 ?_
  refine v_callSv F dX0_roll_8 cs_X0_163 rfl (vm_X0_within) rfl (rOk.of rfl) ?_
  refine v_if_ne F dX0_roll_11 rfl (fun hq1 => ?_) (fun hq1 => ?_)
  · rw [if_neg hq1] at h
    refine v_iload_n F dX0_roll_16 rfl rfl ?_
    by_cases hq2 : a2 = 0
    · rw [if_pos hq2] at h
      refine v_tableIn F dX0_roll_17 hq2 (by decide) (by decide) rfl rfl ?_
      refine v_aload_n F dX0_roll_44 rfl rfl ?_
      refine gf_X0_76 F dX0_roll_45 hp (v := 60) rfl ?_
      refine v_iload_n F dX0_roll_48 rfl rfl ?_
      obtain ⟨hi3, h⟩ := ck_some h
      refine v_iald F dX0_roll_49 (ar_X0_18 hX hp) hi3 ?_
      cases h
      cases (show _ = r from K)
      exact v_iret F dX0_roll_50
    · rw [if_neg hq2] at h
      by_cases hq4 : a2 = 1
      · rw [if_pos hq4] at h
        refine v_tableIn F dX0_roll_17 hq4 (by decide) (by decide) rfl rfl ?_
        refine v_aload_n F dX0_roll_51 rfl rfl ?_
        refine gf_X0_79 F dX0_roll_52 hp (v := 61) rfl ?_
        refine v_iload_n F dX0_roll_55 rfl rfl ?_
        obtain ⟨hi5, h⟩ := ck_some h
        refine v_iald F dX0_roll_56 (ar_X0_19 hX hp) hi5 ?_
        cases h
        cases (show _ = r from K)
        exact v_iret F dX0_roll_57
      · rw [if_neg hq4] at h
        by_cases hq6 : a2 = 2
        · rw [if_pos hq6] at h
          refine v_tableIn F dX0_roll_17 hq6 (by decide) (by decide) rfl rfl ?_
          refine v_aload_n F dX0_roll_58 rfl rfl ?_
          refine gf_X0_82 F dX0_roll_59 hp (v := 62) rfl ?_
          refine v_iload_n F dX0_roll_62 rfl rfl ?_
          obtain ⟨hi7, h⟩ := ck_some h
          refine v_zald F dX0_roll_63 (ar_X0_20 hX hp) hi7 ?_
          refine v_if_eq F dX0_roll_64 rfl (fun hq8 => ?_) (fun hq8 => ?_)
          · rw [if_pos hq8] at h
            refine v_iconst F dX0_roll_71 ⟨by decide, by decide⟩ ?_
            cases h
            cases (show _ = r from K)
            exact v_iret F dX0_roll_72
          · rw [if_neg hq8] at h
            refine v_iconst F dX0_roll_67 ⟨by decide, by decide⟩ ?_
            refine v_goto F dX0_roll_68 rfl ?_
            cases h
            cases (show _ = r from K)
            exact v_iret F dX0_roll_72
        · rw [if_neg hq6] at h
          refine v_tableOut F dX0_roll_17 (by omega) rfl ?_
          refine v_bipush F dX0_roll_73 rfl ⟨by decide, by decide⟩ ?_
          cases h
          cases (show _ = r from K)
          exact v_iret F dX0_roll_75
  · rw [if_pos hq1] at h
    refine v_iconst F dX0_roll_14 ⟨by decide, by decide⟩ ?_
    cases h
    cases (show _ = r from K)
    exact v_iret F dX0_roll_15
theorem vm_X11_roll {w : Wd} {l : Launch} {d m : Dt} {a1 a2 : Int} {r : Int} (hp : PB m 1545 11) (h : fX11_roll d a1 a2 = some r) : VM w l WF yX11_roll cX11_roll 3 (some .int) 1 25 0 0 d m [mA 1545, mI a1, mI a2] (some (mI r)) d m := by
  obtain ⟨x, h, K⟩ : ∃ x, fX11_roll d a1 a2 = some x ∧ x = r := ⟨_, h, rfl⟩
  refine VM.of (L := [mA 1545, mI a1, mI a2]) (by decide +kernel) rfl (Nat.le_of_ble_eq_true rfl) fun G F _ => v_fact fun _ hX _ _ => ?_
  unfold fX11_roll at h
  refine v_iload_n F dX11_roll_0 rfl rfl ?_
  refine v_i2l F dX11_roll_1 ?_
  refine v_lconst0 F dX11_roll_2 ?_
  refine v_aload_n F dX11_roll_3 rfl rfl ?_
  refine gf_X11_534 F dX11_roll_4 hp ?_
  refine v_iconst F dX11_roll_7 ⟨by decide, by decide⟩ ?_
  refine v_isub F dX11_roll_8 ?_
  refine v_i2l F dX11_roll_9 ?_
  refine v_callSv F dX11_roll_10 cs_X11_13 rfl (vm_X11_in) rfl (rOk.of rfl) ?_
  refine v_if_ne F dX11_roll_13 rfl (fun hq1 => ?_) (fun hq1 => ?_)
  · rw [if_neg hq1] at h
    refine v_iload_n F dX11_roll_18 rfl rfl ?_
    refine v_if_ne F dX11_roll_19 rfl (fun hq2 => ?_) (fun hq2 => ?_)
    · rw [if_neg hq2] at h
      refine v_iload_n F dX11_roll_31 rfl rfl ?_
      refine v_iconst F dX11_roll_32 ⟨by decide, by decide⟩ ?_
      refine v_icmp_ne F dX11_roll_33 rfl (fun hq3 => ?_) (fun hq3 => ?_)
      · rw [if_neg hq3] at h
        refine v_iload_n F dX11_roll_45 rfl rfl ?_
        refine v_iconst F dX11_roll_46 ⟨by decide, by decide⟩ ?_
        refine v_icmp_ne F dX11_roll_47 rfl (fun hq4 => ?_) (fun hq4 => ?_)
        · rw [if_neg hq4] at h
          refine v_bipush F dX11_roll_67 rfl ⟨by decide, by decide⟩ ?_
          cases h
          cases (show _ = r from K)
          exact v_iret F dX11_roll_69
        · rw [if_pos hq4] at h
          refine v_aload_n F dX11_roll_50 rfl rfl ?_
          refine gf_X11_605 F dX11_roll_51 hp (v := 1597) rfl ?_
          refine v_iload_n F dX11_roll_54 rfl rfl ?_
          obtain ⟨hi5, h⟩ := ck_some h
          refine v_zald F dX11_roll_55 (ar_X11_74 hX hp) hi5 ?_
          refine v_if_eq F dX11_roll_56 rfl (fun hq6 => ?_) (fun hq6 => ?_)
          · rw [if_pos hq6] at h
            refine v_iconst F dX11_roll_63 ⟨by decide, by decide⟩ ?_
            refine v_goto F dX11_roll_64 rfl ?_
            cases h
            cases (show _ = r from K)
            exact v_iret F dX11_roll_69
          · rw [if_neg hq6] at h
            refine v_iconst F dX11_roll_59 ⟨by decide, by decide⟩ ?_
            refine v_goto F dX11_roll_60 rfl ?_
            cases h
            cases (show _ = r from K)
            exact v_iret F dX11_roll_69
      · rw [if_pos hq3] at h
        refine v_aload_n F dX11_roll_36 rfl rfl ?_
        refine gf_X11_602 F dX11_roll_37 hp (v := 1596) rfl ?_
        refine v_iload_n F dX11_roll_40 rfl rfl ?_
        obtain ⟨hi7, h⟩ := ck_some h
        refine v_iald F dX11_roll_41 (ar_X11_73 hX hp) hi7 ?_
        refine v_goto F dX11_roll_42 rfl ?_
        cases h
        cases (show _ = r from K)
        exact v_iret F dX11_roll_69
    · rw [if_pos hq2] at h
      refine v_aload_n F dX11_roll_22 rfl rfl ?_
      refine gf_X11_599 F dX11_roll_23 hp (v := 1595) rfl ?_
      refine v_iload_n F dX11_roll_26 rfl rfl ?_
      obtain ⟨hi8, h⟩ := ck_some h
      refine v_iald F dX11_roll_27 (ar_X11_72 hX hp) hi8 ?_
      refine v_goto F dX11_roll_28 rfl ?_
      cases h
      cases (show _ = r from K)
      exact v_iret F dX11_roll_69
  · rw [if_pos hq1] at h
    refine v_iconst F dX11_roll_16 ⟨by decide, by decide⟩ ?_
    cases h
    cases (show _ = r from K)
    exact v_iret F dX11_roll_17
theorem vm_X0_appeal {w : Wd} {l : Launch} {d m : Dt} {a1 a2 : Int} {d' : Dt} {r : Int} (hp : PB m 1 0) (h : fX0_appeal d a1 a2 = some (d', r)) : VM w l WF yX0_appeal cX0_appeal 3 (some .int) 4 115 0 0 d m [mA 1, mI a1, mI a2] (some (mI r)) d' m := by
  obtain ⟨x, h, K⟩ : ∃ x, fX0_appeal d a1 a2 = some x ∧ x = (d', r) := ⟨_, h, rfl⟩
  refine VM.of (L := [mA 1, mI a1, mI a2]) (by decide +kernel) rfl (Nat.le_of_ble_eq_true rfl) fun G F _ => v_fact fun _ hX _ _ => ?_
  unfold fX0_appeal at h
  refine v_aload_n F dX0_appeal_0 rfl rfl ?_
  refine v_iload_n F dX0_appeal_1 rfl rfl ?_
  refine v_callVv (c := 0) F dX0_appeal_2 cv_X0_210 rfl (PB.ob hp hX (Nat.le_of_ble_eq_true rfl)) (Nat.le_of_ble_eq_true rfl) rfl (vm_X0_isPerson hp) rfl (rOk.of rfl) ?_
  refine v_if_ne F dX0_appeal_5 rfl (fun hq1 => ?_) (fun hq1 => ?_)
  · rw [if_neg hq1] at h
    refine v_iload_n F dX0_appeal_10 rfl rfl ?_
    refine v_iconst F dX0_appeal_11 ⟨by decide, by decide⟩ ?_
    refine v_iconst F dX0_appeal_12 ⟨by decide, by decide⟩ ?_
    refine v_callSv F dX0_appeal_13 cs_X0_163 rfl (vm_X0_within) rfl (rOk.of rfl) ?_
    refine v_if_ne F dX0_appeal_16 rfl (fun hq2 => ?_) (fun hq2 => ?_)
    · rw [if_neg hq2] at h
      refine v_aload_n F dX0_appeal_22 rfl rfl ?_
      refine gf_X0_265 F dX0_appeal_23 hp ?_
      refine v_if_eq F dX0_appeal_26 rfl (fun hq3 => ?_) (fun hq3 => ?_)
      · rw [if_pos hq3] at h
        refine v_bipush F dX0_appeal_45 rfl ⟨by decide, by decide⟩ ?_
        cases h
        cases (show _ = (d', r) from K)
        exact v_iret F dX0_appeal_47
      · rw [if_neg hq3] at h
        refine v_aload_n F dX0_appeal_29 rfl rfl ?_
        refine gf_X0_167 F dX0_appeal_30 hp ?_
        refine v_aload_n F dX0_appeal_33 rfl rfl ?_
        obtain ⟨x4, ex4, h⟩ := lv_some h
        obtain ⟨hn6, h⟩ := ck_some h
        refine gf_X0_42 F dX0_appeal_34 hp ex4 fun hr5 => ?_
        have x4p := hr5.resolve_left hn6
        refine gf_X0_293 F dX0_appeal_37 x4p (v := (x4 + 1)) rfl ?_
        refine v_iconst F dX0_appeal_40 ⟨by decide, by decide⟩ ?_
        refine v_iald F dX0_appeal_41 (ar_X4_0 hX x4p) ⟨by decide, by decide⟩ ?_
        refine v_icmp_le F dX0_appeal_42 rfl (fun hq7 => ?_) (fun hq7 => ?_)
        · rw [if_pos hq7] at h
          refine v_aload_n F dX0_appeal_48 rfl rfl ?_
          refine gf_X0_271 F dX0_appeal_49 hp ?_
          refine v_bipush F dX0_appeal_52 rfl ⟨by decide, by decide⟩ ?_
          refine v_icmp_ne F dX0_appeal_54 rfl (fun hq8 => ?_) (fun hq8 => ?_)
          · rw [if_neg hq8] at h
            refine v_aload_n F dX0_appeal_60 rfl rfl ?_
            refine gf_X0_89 F dX0_appeal_61 hp (v := 64) rfl ?_
            refine v_aload_n F dX0_appeal_64 rfl rfl ?_
            refine gf_X0_271 F dX0_appeal_65 hp ?_
            refine v_iload_n F dX0_appeal_68 rfl rfl ?_
            obtain ⟨x9, ex9, h⟩ := lv_some h
            refine v_n2 ex9 ?_
            obtain ⟨hi10, h⟩ := ck_some h
            obtain ⟨d11, ed11, h⟩ := sd_some h
            refine v_iast F dX0_appeal_69 (ar_X0_23 hX hp) hi10 ?_
            refine v_nD ed11 ?_
            refine v_aload_n F dX0_appeal_70 rfl rfl ?_
            refine gf_X0_92 F dX0_appeal_71 hp (v := 65) rfl ?_
            refine v_aload_n F dX0_appeal_74 rfl rfl ?_
            refine gf_X0_271 F dX0_appeal_75 hp ?_
            refine v_iload_n F dX0_appeal_78 rfl rfl ?_
            obtain ⟨x12, ex12, h⟩ := lv_some h
            refine v_n2 ex12 ?_
            obtain ⟨hi13, h⟩ := ck_some h
            obtain ⟨d14, ed14, h⟩ := sd_some h
            refine v_iast F dX0_appeal_79 (ar_X0_24 hX hp) hi13 ?_
            refine v_nD ed14 ?_
            refine v_aload_n F dX0_appeal_80 rfl rfl ?_
            refine gf_X0_95 F dX0_appeal_81 hp (v := 66) rfl ?_
            refine v_aload_n F dX0_appeal_84 rfl rfl ?_
            refine gf_X0_271 F dX0_appeal_85 hp ?_
            refine v_iconst F dX0_appeal_88 ⟨by decide, by decide⟩ ?_
            obtain ⟨x15, ex15, h⟩ := lv_some h
            refine v_n2 ex15 ?_
            obtain ⟨hi16, h⟩ := ck_some h
            obtain ⟨d17, ed17, h⟩ := sd_some h
            refine v_zast F dX0_appeal_89 (ar_X0_25 hX hp) hi16 ?_
            refine v_nD ed17 ?_
            refine v_aload_n F dX0_appeal_90 rfl rfl ?_
            refine v_dup_A F dX0_appeal_91 ?_
            refine gf_X0_271 F dX0_appeal_92 hp ?_
            refine v_iconst F dX0_appeal_95 ⟨by decide, by decide⟩ ?_
            refine v_iadd F dX0_appeal_96 ?_
            obtain ⟨d18, ed18, h⟩ := sd_some h
            refine pf_X0_271 F dX0_appeal_97 hp ?_
            refine v_nD ed18 ?_
            refine v_aload_n F dX0_appeal_100 rfl rfl ?_
            refine v_bipush F dX0_appeal_101 rfl ⟨by decide, by decide⟩ ?_
            refine v_iload_n F dX0_appeal_103 rfl rfl ?_
            refine v_iload_n F dX0_appeal_104 rfl rfl ?_
            refine v_iconst F dX0_appeal_105 ⟨by decide, by decide⟩ ?_
            refine v_iconst F dX0_appeal_106 ⟨by decide, by decide⟩ ?_
            obtain ⟨d19, hc20, h⟩ := bd_some h
            refine v_callV0 (c := 0) F dX0_appeal_107 cv_X0_173 rfl (PB.ob hp hX (Nat.le_of_ble_eq_true rfl)) (Nat.le_of_ble_eq_true rfl) rfl (vm_X0_write hp hc20) rfl (rOk.of rfl) ?_
            refine v_aload_n F dX0_appeal_110 rfl rfl ?_
            refine gf_X0_271 F dX0_appeal_111 hp ?_
            refine v_iconst F dX0_appeal_114 ⟨by decide, by decide⟩ ?_
            refine v_isub F dX0_appeal_115 ?_
            cases h
            cases (show _ = (d', r) from K)
            exact v_iret F dX0_appeal_116
          · rw [if_pos hq8] at h
            refine v_bipush F dX0_appeal_57 rfl ⟨by decide, by decide⟩ ?_
            cases h
            cases (show _ = (d', r) from K)
            exact v_iret F dX0_appeal_59
        · rw [if_neg hq7] at h
          refine v_bipush F dX0_appeal_45 rfl ⟨by decide, by decide⟩ ?_
          cases h
          cases (show _ = (d', r) from K)
          exact v_iret F dX0_appeal_47
    · rw [if_pos hq2] at h
      refine v_bipush F dX0_appeal_19 rfl ⟨by decide, by decide⟩ ?_
      cases h
      cases (show _ = (d', r) from K)
      exact v_iret F dX0_appeal_21
  · rw [if_pos hq1] at h
    refine v_iconst F dX0_appeal_8 ⟨by decide, by decide⟩ ?_
    cases h
    cases (show _ = (d', r) from K)
    exact v_iret F dX0_appeal_9
theorem vm_X11_appeal {w : Wd} {l : Launch} {d m : Dt} {a1 a2 : Int} {d' : Dt} {r : Int} (hp : PB m 1545 11) (h : fX11_appeal d a1 a2 = some (d', r)) : VM w l WF yX11_appeal cX11_appeal 3 (some .int) 3 73 0 0 d m [mA 1545, mI a1, mI a2] (some (mI r)) d' m := by
  obtain ⟨x, h, K⟩ : ∃ x, fX11_appeal d a1 a2 = some x ∧ x = (d', r) := ⟨_, h, rfl⟩
  refine VM.of (L := [mA 1545, mI a1, mI a2]) (by decide +kernel) rfl (Nat.le_of_ble_eq_true rfl) fun G F _ => v_fact fun _ hX _ _ => ?_
  unfold fX11_appeal at h
  refine v_aload_n F dX11_appeal_0 rfl rfl ?_
  refine v_iload_n F dX11_appeal_1 rfl rfl ?_
  refine v_callVv (c := 11) F dX11_appeal_2 cv_X11_110 rfl (PB.ob hp hX (Nat.le_of_ble_eq_true rfl)) (Nat.le_of_ble_eq_true rfl) rfl (vm_X11_isPerson hp) rfl (rOk.of rfl) ?_
  refine v_if_ne F dX11_appeal_5 rfl (fun hq1 => ?_) (fun hq1 => ?_)
  · rw [if_neg hq1] at h
    refine v_iload_n F dX11_appeal_10 rfl rfl ?_
    refine v_i2l F dX11_appeal_11 ?_
    refine v_lconst0 F dX11_appeal_12 ?_
    refine v_lconst1 F dX11_appeal_13 ?_
    refine v_callSv F dX11_appeal_14 cs_X11_13 rfl (vm_X11_in) rfl (rOk.of rfl) ?_
    refine v_if_ne F dX11_appeal_17 rfl (fun hq2 => ?_) (fun hq2 => ?_)
    · rw [if_neg hq2] at h
      refine v_aload_n F dX11_appeal_23 rfl rfl ?_
      refine gf_X11_531 F dX11_appeal_24 hp ?_
      refine v_if_eq F dX11_appeal_27 rfl (fun hq3 => ?_) (fun hq3 => ?_)
      · rw [if_pos hq3] at h
        refine v_bipush F dX11_appeal_42 rfl ⟨by decide, by decide⟩ ?_
        cases h
        cases (show _ = (d', r) from K)
        exact v_iret F dX11_appeal_44
      · rw [if_neg hq3] at h
        refine v_aload_n F dX11_appeal_30 rfl rfl ?_
        refine gf_X11_17 F dX11_appeal_31 hp ?_
        refine v_aload_n F dX11_appeal_34 rfl rfl ?_
        refine v_iconst F dX11_appeal_35 ⟨by decide, by decide⟩ ?_
        obtain ⟨x4, hc5, h⟩ := b1_some h
        refine v_callVv (c := 11) F dX11_appeal_36 cv_X11_466 rfl (PB.ob hp hX (Nat.le_of_ble_eq_true rfl)) (Nat.le_of_ble_eq_true rfl) rfl (vm_X11_lawIs hp hc5) rfl (rOk.of rfl) ?_
        refine v_icmp_le F dX11_appeal_39 rfl (fun hq6 => ?_) (fun hq6 => ?_)
        · rw [if_pos hq6] at h
          refine v_aload_n F dX11_appeal_45 rfl rfl ?_
          refine gf_X11_537 F dX11_appeal_46 hp ?_
          refine v_bipush F dX11_appeal_49 rfl ⟨by decide, by decide⟩ ?_
          refine v_icmp_ne F dX11_appeal_51 rfl (fun hq7 => ?_) (fun hq7 => ?_)
          · rw [if_neg hq7] at h
            refine v_aload_n F dX11_appeal_57 rfl rfl ?_
            refine gf_X11_623 F dX11_appeal_58 hp (v := 1598) rfl ?_
            refine v_aload_n F dX11_appeal_61 rfl rfl ?_
            refine gf_X11_537 F dX11_appeal_62 hp ?_
            refine v_iload_n F dX11_appeal_65 rfl rfl ?_
            obtain ⟨x8, ex8, h⟩ := lv_some h
            refine v_n2 ex8 ?_
            obtain ⟨hi9, h⟩ := ck_some h
            obtain ⟨d10, ed10, h⟩ := sd_some h
            refine v_iast F dX11_appeal_66 (ar_X11_76 hX hp) hi9 ?_
            refine v_nD ed10 ?_
            refine v_aload_n F dX11_appeal_67 rfl rfl ?_
            refine gf_X11_626 F dX11_appeal_68 hp (v := 1599) rfl ?_
            refine v_aload_n F dX11_appeal_71 rfl rfl ?_
            refine gf_X11_537 F dX11_appeal_72 hp ?_
            refine v_iload_n F dX11_appeal_75 rfl rfl ?_
            obtain ⟨x11, ex11, h⟩ := lv_some h
            refine v_n2 ex11 ?_
            obtain ⟨hi12, h⟩ := ck_some h
            obtain ⟨d13, ed13, h⟩ := sd_some h
            refine v_iast F dX11_appeal_76 (ar_X11_77 hX hp) hi12 ?_
            refine v_nD ed13 ?_
            refine v_aload_n F dX11_appeal_77 rfl rfl ?_
            refine gf_X11_629 F dX11_appeal_78 hp (v := 1600) rfl ?_
            refine v_aload_n F dX11_appeal_81 rfl rfl ?_
            refine gf_X11_537 F dX11_appeal_82 hp ?_
            refine v_iconst F dX11_appeal_85 ⟨by decide, by decide⟩ ?_
            obtain ⟨x14, ex14, h⟩ := lv_some h
            refine v_n2 ex14 ?_
            obtain ⟨hi15, h⟩ := ck_some h
            obtain ⟨d16, ed16, h⟩ := sd_some h
            refine v_zast F dX11_appeal_86 (ar_X11_78 hX hp) hi15 ?_
            refine v_nD ed16 ?_
            refine v_aload_n F dX11_appeal_87 rfl rfl ?_
            refine v_bipush F dX11_appeal_88 rfl ⟨by decide, by decide⟩ ?_
            refine v_iload_n F dX11_appeal_90 rfl rfl ?_
            refine v_iload_n F dX11_appeal_91 rfl rfl ?_
            refine v_iconst F dX11_appeal_92 ⟨by decide, by decide⟩ ?_
            refine v_iconst F dX11_appeal_93 ⟨by decide, by decide⟩ ?_
            obtain ⟨d17, hc18, h⟩ := bd_some h
            refine v_callV0 (c := 11) F dX11_appeal_94 cv_X11_22 rfl (PB.ob hp hX (Nat.le_of_ble_eq_true rfl)) (Nat.le_of_ble_eq_true rfl) rfl (vm_X11_write hp hc18) rfl (rOk.of rfl) ?_
            refine v_aload_n F dX11_appeal_97 rfl rfl ?_
            refine v_dup_A F dX11_appeal_98 ?_
            refine gf_X11_537 F dX11_appeal_99 hp ?_
            obtain ⟨x19, ex19, h⟩ := lv_some h
            refine v_nI ex19 ?_
            refine v_dup_x1_IA F dX11_appeal_102 ?_
            refine v_iconst F dX11_appeal_103 ⟨by decide, by decide⟩ ?_
            refine v_iadd F dX11_appeal_104 ?_
            obtain ⟨d20, ed20, h⟩ := sd_some h
            refine pf_X11_537 F dX11_appeal_105 hp ?_
            refine v_nD ed20 ?_
            cases h
            cases (show _ = (d', r) from K)
            exact v_iret F dX11_appeal_108
          · rw [if_pos hq7] at h
            refine v_bipush F dX11_appeal_54 rfl ⟨by decide, by decide⟩ ?_
            cases h
            cases (show _ = (d', r) from K)
            exact v_iret F dX11_appeal_56
        · rw [if_neg hq6] at h
          refine v_bipush F dX11_appeal_42 rfl ⟨by decide, by decide⟩ ?_
          cases h
          cases (show _ = (d', r) from K)
          exact v_iret F dX11_appeal_44
    · rw [if_pos hq2] at h
      refine v_bipush F dX11_appeal_20 rfl ⟨by decide, by decide⟩ ?_
      cases h
      cases (show _ = (d', r) from K)
      exact v_iret F dX11_appeal_22
  · rw [if_pos hq1] at h
    refine v_iconst F dX11_appeal_8 ⟨by decide, by decide⟩ ?_
    cases h
    cases (show _ = (d', r) from K)
    exact v_iret F dX11_appeal_9
def fX0_onRoll_4P (w : Wd) (l : Launch) (G : Cx) (Q : State → Prop) (m : Dt) (d : Dt) (s : Int × Int) : Prop := V w l WF G Q d m 0 0 4 [mA 1, mI (s.1), mI (s.2)] []
theorem fX0_onRoll_27_ok {w : Wd} {l : Launch} {G : Cx} {d m dd : Dt} {v2 s0 s1 : Int} {r : Int} {x : ((Int × Int) ⊕ Int)} (F : Fx w G cX0_onRoll RX0 3 (some .int) { frames := 0, cells := 0, slots := 0, locals := 0 }) (hX : WF dd m) (hp : PB m 1 0) (h : fX0_onRoll_27 d v2 s0 s1 = some x) (K : (Sum.elim (fX0_onRoll_4P w l G (QM w G WF (some (mI r)) d m 0 0) m d) (fun q => q = r)) x) : V w l WF G (QM w G WF (some (mI r)) d m 0 0) d m 0 0 27 [mA 1, mU, mI v2] [mI s1, mI s0] := by
  unfold fX0_onRoll_27 at h
  refine v_iadd F dX0_onRoll_27 ?_
  obtain ⟨x4, ex4, h⟩ := lv_some h
  refine v_nI ex4 ?_
  refine v_istore_n F dX0_onRoll_28 rfl (Nat.le_of_ble_eq_true rfl) (L' := [mA 1, mI x4, mI v2]) rfl ?_
  obtain ⟨x5, ex5, h⟩ := lv_some h
  refine v_iincN F dX0_onRoll_29 (Nat.le_of_ble_eq_true rfl) rfl ex5 (L' := [mA 1, mI x4, mI x5]) rfl ?_
  refine v_goto F dX0_onRoll_32 rfl ?_
  cases h
  exact K
theorem fX0_onRoll_4f_ok {w : Wd} {l : Launch} {G : Cx} {d m dd : Dt} {r : Int} {s : Int × Int} {x : ((Int × Int) ⊕ Int)} (F : Fx w G cX0_onRoll RX0 3 (some .int) { frames := 0, cells := 0, slots := 0, locals := 0 }) (hX : WF dd m) (hp : PB m 1 0) (h : fX0_onRoll_4f d s = some x) (K : (Sum.elim (fX0_onRoll_4P w l G (QM w G WF (some (mI r)) d m 0 0) m d) (fun q => q = r)) x) : V w l WF G (QM w G WF (some (mI r)) d m 0 0) d m 0 0 4 [mA 1, mI (s.1), mI (s.2)] [] := by
  obtain ⟨v1, v2⟩ := s
  unfold fX0_onRoll_4f at h
  dsimp only at h
  refine v_iload_n F dX0_onRoll_4 rfl rfl ?_
  refine v_aload_n F dX0_onRoll_5 rfl rfl ?_
  refine gf_X0_268 F dX0_onRoll_6 hp ?_
  refine v_icmp_ge F dX0_onRoll_9 rfl (fun hq1 => ?_) (fun hq1 => ?_)
  · rw [if_pos hq1] at h
    obtain ⟨z, hu, ez⟩ := up_some h
    clear h
    subst ez
    have h := hu
    clear hu
    refine v_iload_n F dX0_onRoll_35 rfl rfl ?_
    cases h
    cases (show _ = r from K)
    exact v_iret F dX0_onRoll_36
  · rw [if_neg hq1] at h
    refine v_iload_n F dX0_onRoll_12 rfl rfl ?_
    refine v_aload_n F dX0_onRoll_13 rfl rfl ?_
    refine gf_X0_82 F dX0_onRoll_14 hp (v := 62) rfl ?_
    refine v_iload_n F dX0_onRoll_17 rfl rfl ?_
    obtain ⟨hi2, h⟩ := ck_some h
    refine v_zald F dX0_onRoll_18 (ar_X0_20 hX hp) hi2 ?_
    refine v_if_eq F dX0_onRoll_19 rfl (fun hq3 => ?_) (fun hq3 => ?_)
    · rw [if_pos hq3] at h
      refine v_iconst F dX0_onRoll_26 ⟨by decide, by decide⟩ ?_
      refine v_fgt (L' := [mA 1, mU, mI v2]) ⟨Or.inl rfl, Or.inr rfl, Or.inl rfl, trivial⟩ ?_
      exact fX0_onRoll_27_ok F hX hp h K
    · rw [if_neg hq3] at h
      refine v_iconst F dX0_onRoll_22 ⟨by decide, by decide⟩ ?_
      refine v_goto F dX0_onRoll_23 rfl ?_
      refine v_fgt (L' := [mA 1, mU, mI v2]) ⟨Or.inl rfl, Or.inr rfl, Or.inl rfl, trivial⟩ ?_
      exact fX0_onRoll_27_ok F hX hp h K
theorem fX0_onRoll_4_ok {w : Wd} {l : Launch} {G : Cx} {d m dd : Dt} {v1 v2 : Int} {r : Int} {x : Int} (F : Fx w G cX0_onRoll RX0 3 (some .int) { frames := 0, cells := 0, slots := 0, locals := 0 }) (hX : WF dd m) (hp : PB m 1 0) (h : fX0_onRoll_4 d v1 v2 = some x) (K : (fun q => q = r) x) : V w l WF G (QM w G WF (some (mI r)) d m 0 0) d m 0 0 4 [mA 1, mI v1, mI v2] [] := by
  unfold fX0_onRoll_4 at h
  exact loop_ok (P := fX0_onRoll_4P w l G (QM w G WF (some (mI r)) d m 0 0) m d) (fun s x hx h1 h2 => fX0_onRoll_4f_ok F hX hp hx (by
    cases x with
    | inl s' => exact h1 s' rfl
    | inr z => cases h2 z rfl; exact K)) h
theorem vm_X0_onRoll {w : Wd} {l : Launch} {d m : Dt} {r : Int} (hp : PB m 1 0) (h : fX0_onRoll d = some r) : VM w l WF yX0_onRoll cX0_onRoll 3 (some .int) 0 0 0 0 d m [mA 1] (some (mI r)) d m := by
  obtain ⟨x, h, K⟩ : ∃ x, fX0_onRoll d = some x ∧ x = r := ⟨_, h, rfl⟩
  refine VM.of (L := [mA 1, mU, mU]) (by decide +kernel) rfl (Nat.le_of_ble_eq_true rfl) fun G F _ => v_fact fun _ hX _ _ => ?_
  unfold fX0_onRoll at h
  refine v_iconst F dX0_onRoll_0 ⟨by decide, by decide⟩ ?_
  refine v_istore_n F dX0_onRoll_1 rfl (Nat.le_of_ble_eq_true rfl) (L' := [mA 1, mI 0, mU]) rfl ?_
  refine v_iconst F dX0_onRoll_2 ⟨by decide, by decide⟩ ?_
  refine v_istore_n F dX0_onRoll_3 rfl (Nat.le_of_ble_eq_true rfl) (L' := [mA 1, mI 0, mI 0]) rfl ?_
  exact fX0_onRoll_4_ok F hX hp h K
theorem fX0_decide_181_ok {w : Wd} {l : Launch} {G : Cx} {d m dd : Dt} {a1 a2 : Int} {d' : Dt} {r : Int} {x : (Dt × Int)} (F : Fx w G cX0_decide RX0 7 (some .int) { frames := 4, cells := 0, slots := 0, locals := 115 }) (hX : WF dd m) (hp : PB m 1 0) (h : fX0_decide_181 d a1 a2 = some x) (K : (fun q => q = (d', r)) x) : V w l WF G (QM w G WF (some (mI r)) d' m 0 0) d m 0 0 181 [mA 1, mI a1, mI a2, mU, mU, mU, mU] [] := by
  unfold fX0_decide_181 at h
  refine v_aload_n F dX0_decide_181 rfl rfl ?_
  refine v_bipush F dX0_decide_182 rfl ⟨by decide, by decide⟩ ?_
  refine v_iload_n F dX0_decide_184 rfl rfl ?_
  refine v_iload_n F dX0_decide_185 rfl rfl ?_
  refine v_iconst F dX0_decide_186 ⟨by decide, by decide⟩ ?_
  refine v_iconst F dX0_decide_187 ⟨by decide, by decide⟩ ?_
  obtain ⟨d20, hc21, h⟩ := bd_some h
  refine v_callV0 (c := 0) F dX0_decide_188 cv_X0_173 rfl (PB.ob hp hX (Nat.le_of_ble_eq_true rfl)) (Nat.le_of_ble_eq_true rfl) rfl (vm_X0_write hp hc21) rfl (rOk.of rfl) ?_
  refine v_aload_n F dX0_decide_191 rfl rfl ?_
  obtain ⟨x22, hc23, h⟩ := b1_some h
  refine v_callVv (c := 0) F dX0_decide_192 cv_X0_400 rfl (PB.ob hp hX (Nat.le_of_ble_eq_true rfl)) (Nat.le_of_ble_eq_true rfl) rfl (vm_X0_onRoll hp hc23) rfl (rOk.of rfl) ?_
  cases h
  cases (show _ = (d', r) from K)
  exact v_iret F dX0_decide_195
theorem fX0_decide_180_ok {w : Wd} {l : Launch} {G : Cx} {d m dd : Dt} {a1 a2 s1 s2 : Int} {d' : Dt} {r : Int} {x : (Dt × Int)} (F : Fx w G cX0_decide RX0 7 (some .int) { frames := 4, cells := 0, slots := 0, locals := 115 }) (hX : WF dd m) (hp : PB m 1 0) (h : fX0_decide_180 d a1 a2 s1 s2 = some x) (K : (fun q => q = (d', r)) x) : V w l WF G (QM w G WF (some (mI r)) d' m 0 0) d m 0 0 180 [mA 1, mI a1, mI a2, mU, mU, mU, mU] [mI s2, mI s1, mA 62] := by
  unfold fX0_decide_180 at h
  obtain ⟨hi26, h⟩ := ck_some h
  obtain ⟨d27, ed27, h⟩ := sd_some h
  refine v_zast F dX0_decide_180 (ar_X0_20 hX hp) hi26 ?_
  refine v_nD ed27 ?_
  exact fX0_decide_181_ok F hX hp h K
theorem fX0_decide_127_ok {w : Wd} {l : Launch} {G : Cx} {d m dd : Dt} {a1 a2 v3 v4 v5 v6 : Int} {d' : Dt} {r : Int} {x : (Dt × Int)} (F : Fx w G cX0_decide RX0 7 (some .int) { frames := 4, cells := 0, slots := 0, locals := 115 }) (hX : WF dd m) (hp : PB m 1 0) (h : fX0_decide_127 d a1 a2 v3 v4 v5 v6 = some x) (K : (fun q => q = (d', r)) x) : V w l WF G (QM w G WF (some (mI r)) d' m 0 0) d m 0 0 127 [mA 1, mI a1, mI a2, mI v3, mI v4, mI v5, mI v6] [] := by
  unfold fX0_decide_127 at h
  refine v_aload_n F dX0_decide_127 rfl rfl ?_
  refine gf_X0_95 F dX0_decide_128 hp (v := 66) rfl ?_
  refine v_iload_n F dX0_decide_131 rfl rfl ?_
  refine v_iconst F dX0_decide_132 ⟨by decide, by decide⟩ ?_
  obtain ⟨hi16, h⟩ := ck_some h
  obtain ⟨d17, ed17, h⟩ := sd_some h
  refine v_zast F dX0_decide_133 (ar_X0_25 hX hp) hi16 ?_
  refine v_nD ed17 ?_
  refine v_iload F dX0_decide_134 rfl ?_
  refine v_if_eq F dX0_decide_136 rfl (fun hq18 => ?_) (fun hq18 => ?_)
  · rw [if_pos hq18] at h
    refine v_iload_n F dX0_decide_149 rfl rfl ?_
    refine v_iconst F dX0_decide_150 ⟨by decide, by decide⟩ ?_
    refine v_icmp_ne F dX0_decide_151 rfl (fun hq19 => ?_) (fun hq19 => ?_)
    · rw [if_neg hq19] at h
      refine v_fgt (L' := [mA 1, mI a1, mI a2, mU, mU, mU, mU]) ⟨Or.inl rfl, Or.inl rfl, Or.inl rfl, Or.inr rfl, Or.inr rfl, Or.inr rfl, Or.inr rfl, trivial⟩ ?_
      exact fX0_decide_181_ok F hX hp h K
    · rw [if_pos hq19] at h
      refine v_iload F dX0_decide_154 rfl ?_
      refine v_iconst F dX0_decide_156 ⟨by decide, by decide⟩ ?_
      refine v_icmp_eq F dX0_decide_157 rfl (fun hq24 => ?_) (fun hq24 => ?_)
      · rw [if_pos hq24] at h
        refine v_fgt (L' := [mA 1, mI a1, mI a2, mU, mU, mU, mU]) ⟨Or.inl rfl, Or.inl rfl, Or.inl rfl, Or.inr rfl, Or.inr rfl, Or.inr rfl, Or.inr rfl, trivial⟩ ?_
        exact fX0_decide_181_ok F hX hp h K
      · rw [if_neg hq24] at h
        refine v_aload_n F dX0_decide_160 rfl rfl ?_
        refine gf_X0_82 F dX0_decide_161 hp (v := 62) rfl ?_
        refine v_iload F dX0_decide_164 rfl ?_
        refine v_aload_n F dX0_decide_166 rfl rfl ?_
        refine gf_X0_92 F dX0_decide_167 hp (v := 65) rfl ?_
        refine v_iload_n F dX0_decide_170 rfl rfl ?_
        refine v_iald F dX0_decide_171 (ar_X0_24 hX hp) hi16 ?_
        refine v_if_ne F dX0_decide_172 rfl (fun hq25 => ?_) (fun hq25 => ?_)
        · rw [if_neg hq25] at h
          refine v_iconst F dX0_decide_179 ⟨by decide, by decide⟩ ?_
          refine v_fgt (L' := [mA 1, mI a1, mI a2, mU, mU, mU, mU]) ⟨Or.inl rfl, Or.inl rfl, Or.inl rfl, Or.inr rfl, Or.inr rfl, Or.inr rfl, Or.inr rfl, trivial⟩ ?_
          exact fX0_decide_180_ok F hX hp h K
        · rw [if_pos hq25] at h
          refine v_iconst F dX0_decide_175 ⟨by decide, by decide⟩ ?_
          refine v_goto F dX0_decide_176 rfl ?_
          refine v_fgt (L' := [mA 1, mI a1, mI a2, mU, mU, mU, mU]) ⟨Or.inl rfl, Or.inl rfl, Or.inl rfl, Or.inr rfl, Or.inr rfl, Or.inr rfl, Or.inr rfl, trivial⟩ ?_
          exact fX0_decide_180_ok F hX hp h K
  · rw [if_neg hq18] at h
    refine v_aload_n F dX0_decide_139 rfl rfl ?_
    refine v_iload_n F dX0_decide_140 rfl rfl ?_
    refine v_iload F dX0_decide_141 rfl ?_
    obtain ⟨d28, hc29, h⟩ := bd_some h
    refine v_callV0 (c := 0) F dX0_decide_143 cv_X0_396 rfl (PB.ob hp hX (Nat.le_of_ble_eq_true rfl)) (Nat.le_of_ble_eq_true rfl) rfl (vm_X0_enroll hp hc29) rfl (rOk.of rfl) ?_
    refine v_goto F dX0_decide_146 rfl ?_
    refine v_fgt (L' := [mA 1, mI a1, mI a2, mU, mU, mU, mU]) ⟨Or.inl rfl, Or.inl rfl, Or.inl rfl, Or.inr rfl, Or.inr rfl, Or.inr rfl, Or.inr rfl, trivial⟩ ?_
    exact fX0_decide_181_ok F hX hp h K
theorem fX0_decide_103_ok {w : Wd} {l : Launch} {G : Cx} {d m dd : Dt} {a1 a2 v3 v4 v5 s0 : Int} {d' : Dt} {r : Int} {x : (Dt × Int)} (F : Fx w G cX0_decide RX0 7 (some .int) { frames := 4, cells := 0, slots := 0, locals := 115 }) (hX : WF dd m) (hp : PB m 1 0) (h : fX0_decide_103 d a1 a2 v3 v4 v5 s0 = some x) (K : (fun q => q = (d', r)) x) : V w l WF G (QM w G WF (some (mI r)) d' m 0 0) d m 0 0 103 [mA 1, mI a1, mI a2, mI v3, mI v4, mI v5, mU] [mI s0] := by
  unfold fX0_decide_103 at h
  refine v_istore F dX0_decide_103 (Nat.le_of_ble_eq_true rfl) (L' := [mA 1, mI a1, mI a2, mI v3, mI v4, mI v5, mI s0]) rfl ?_
  refine v_aload_n F dX0_decide_105 rfl rfl ?_
  refine gf_X0_95 F dX0_decide_106 hp (v := 66) rfl ?_
  refine v_iload_n F dX0_decide_109 rfl rfl ?_
  obtain ⟨hi13, h⟩ := ck_some h
  refine v_zald F dX0_decide_110 (ar_X0_25 hX hp) hi13 ?_
  refine v_if_ne F dX0_decide_111 rfl (fun hq14 => ?_) (fun hq14 => ?_)
  · rw [if_neg hq14] at h
    refine v_bipush F dX0_decide_124 rfl ⟨by decide, by decide⟩ ?_
    cases h
    cases (show _ = (d', r) from K)
    exact v_iret F dX0_decide_126
  · rw [if_pos hq14] at h
    refine v_iload F dX0_decide_114 rfl ?_
    refine v_if_eq F dX0_decide_116 rfl (fun hq15 => ?_) (fun hq15 => ?_)
    · rw [if_pos hq15] at h
      exact fX0_decide_127_ok F hX hp h K
    · rw [if_neg hq15] at h
      refine v_iload F dX0_decide_119 rfl ?_
      refine v_if_ne F dX0_decide_121 rfl (fun hq30 => ?_) (fun hq30 => ?_)
      · rw [if_neg hq30] at h
        exact fX0_decide_127_ok F hX hp h K
      · rw [if_pos hq30] at h
        refine v_bipush F dX0_decide_124 rfl ⟨by decide, by decide⟩ ?_
        cases h
        cases (show _ = (d', r) from K)
        exact v_iret F dX0_decide_126
theorem fX0_decide_87_ok {w : Wd} {l : Launch} {G : Cx} {d m dd : Dt} {a1 a2 v3 v4 s0 : Int} {d' : Dt} {r : Int} {x : (Dt × Int)} (F : Fx w G cX0_decide RX0 7 (some .int) { frames := 4, cells := 0, slots := 0, locals := 115 }) (hX : WF dd m) (hp : PB m 1 0) (h : fX0_decide_87 d a1 a2 v3 v4 s0 = some x) (K : (fun q => q = (d', r)) x) : V w l WF G (QM w G WF (some (mI r)) d' m 0 0) d m 0 0 87 [mA 1, mI a1, mI a2, mI v3, mI v4, mU, mU] [mI s0] := by
  unfold fX0_decide_87 at h
  refine v_istore F dX0_decide_87 (Nat.le_of_ble_eq_true rfl) (L' := [mA 1, mI a1, mI a2, mI v3, mI v4, mI s0, mU]) rfl ?_
  refine v_iload F dX0_decide_89 rfl ?_
  refine v_if_eq F dX0_decide_91 rfl (fun hq12 => ?_) (fun hq12 => ?_)
  · rw [if_pos hq12] at h
    refine v_iconst F dX0_decide_102 ⟨by decide, by decide⟩ ?_
    exact fX0_decide_103_ok F hX hp h K
  · rw [if_neg hq12] at h
    refine v_aload_n F dX0_decide_94 rfl rfl ?_
    refine v_iload_n F dX0_decide_95 rfl rfl ?_
    obtain ⟨x31, hc32, h⟩ := b1_some h
    refine v_callVv (c := 0) F dX0_decide_96 cv_X0_393 rfl (PB.ob hp hX (Nat.le_of_ble_eq_true rfl)) (Nat.le_of_ble_eq_true rfl) rfl (vm_X0_sheetOf hp hc32) rfl (rOk.of rfl) ?_
    refine v_goto F dX0_decide_99 rfl ?_
    exact fX0_decide_103_ok F hX hp h K
theorem vm_X0_decide {w : Wd} {l : Launch} {d m : Dt} {a1 a2 : Int} {d' : Dt} {r : Int} (hp : PB m 1 0) (h : fX0_decide d a1 a2 = some (d', r)) : VM w l WF yX0_decide cX0_decide 7 (some .int) 4 115 0 0 d m [mA 1, mI a1, mI a2] (some (mI r)) d' m := by
  obtain ⟨x, h, K⟩ : ∃ x, fX0_decide d a1 a2 = some x ∧ x = (d', r) := ⟨_, h, rfl⟩
  refine VM.of (L := [mA 1, mI a1, mI a2, mU, mU, mU, mU]) (by decide +kernel) rfl (Nat.le_of_ble_eq_true rfl) fun G F _ => v_fact fun _ hX _ _ => ?_
  unfold fX0_decide at h
  refine v_iload_n F dX0_decide_0 rfl rfl ?_
  refine v_iconst F dX0_decide_1 ⟨by decide, by decide⟩ ?_
  refine v_aload_n F dX0_decide_2 rfl rfl ?_
  refine gf_X0_271 F dX0_decide_3 hp ?_
  refine v_iconst F dX0_decide_6 ⟨by decide, by decide⟩ ?_
  refine v_isub F dX0_decide_7 ?_
  refine v_callSv F dX0_decide_8 cs_X0_163 rfl (vm_X0_within) rfl (rOk.of rfl) ?_
  refine v_if_ne F dX0_decide_11 rfl (fun hq1 => ?_) (fun hq1 => ?_)
  · rw [if_neg hq1] at h
    refine v_iload_n F dX0_decide_16 rfl rfl ?_
    refine v_iconst F dX0_decide_17 ⟨by decide, by decide⟩ ?_
    refine v_iconst F dX0_decide_18 ⟨by decide, by decide⟩ ?_
    refine v_callSv F dX0_decide_19 cs_X0_163 rfl (vm_X0_within) rfl (rOk.of rfl) ?_
    refine v_if_ne F dX0_decide_22 rfl (fun hq2 => ?_) (fun hq2 => ?_)
    · rw [if_neg hq2] at h
      refine v_aload_n F dX0_decide_28 rfl rfl ?_
      refine gf_X0_167 F dX0_decide_29 hp ?_
      refine v_aload_n F dX0_decide_32 rfl rfl ?_
      obtain ⟨x3, ex3, h⟩ := lv_some h
      obtain ⟨hn5, h⟩ := ck_some h
      refine gf_X0_42 F dX0_decide_33 hp ex3 fun hr4 => ?_
      have x3p := hr4.resolve_left hn5
      refine gf_X0_293 F dX0_decide_36 x3p (v := (x3 + 1)) rfl ?_
      refine v_iconst F dX0_decide_39 ⟨by decide, by decide⟩ ?_
      refine v_iald F dX0_decide_40 (ar_X4_0 hX x3p) ⟨by decide, by decide⟩ ?_
      refine v_icmp_le F dX0_decide_41 rfl (fun hq6 => ?_) (fun hq6 => ?_)
      · rw [if_pos hq6] at h
        refine v_aload_n F dX0_decide_47 rfl rfl ?_
        refine gf_X0_89 F dX0_decide_48 hp (v := 64) rfl ?_
        refine v_iload_n F dX0_decide_51 rfl rfl ?_
        obtain ⟨hi7, h⟩ := ck_some h
        refine v_iald F dX0_decide_52 (ar_X0_23 hX hp) hi7 ?_
        obtain ⟨x8, ex8, h⟩ := lv_some h
        refine v_nI ex8 ?_
        refine v_istore_n F dX0_decide_53 rfl (Nat.le_of_ble_eq_true rfl) (L' := [mA 1, mI a1, mI a2, mI x8, mU, mU, mU]) rfl ?_
        refine v_aload_n F dX0_decide_54 rfl rfl ?_
        refine gf_X0_86 F dX0_decide_55 hp (v := 63) rfl ?_
        refine v_iload_n F dX0_decide_58 rfl rfl ?_
        obtain ⟨hi9, h⟩ := ck_some h
        refine v_iald F dX0_decide_59 (ar_X0_22 hX hp) hi9 ?_
        obtain ⟨x10, ex10, h⟩ := lv_some h
        refine v_nI ex10 ?_
        refine v_istore F dX0_decide_60 (Nat.le_of_ble_eq_true rfl) (L' := [mA 1, mI a1, mI a2, mI x8, mI x10, mU, mU]) rfl ?_
        refine v_iload_n F dX0_decide_62 rfl rfl ?_
        refine v_iconst F dX0_decide_63 ⟨by decide, by decide⟩ ?_
        refine v_icmp_ne F dX0_decide_64 rfl (fun hq11 => ?_) (fun hq11 => ?_)
        · rw [if_neg hq11] at h
          refine v_iconst F dX0_decide_86 ⟨by decide, by decide⟩ ?_
          exact fX0_decide_87_ok F hX hp h K
        · rw [if_pos hq11] at h
          refine v_aload_n F dX0_decide_67 rfl rfl ?_
          refine gf_X0_92 F dX0_decide_68 hp (v := 65) rfl ?_
          refine v_iload_n F dX0_decide_71 rfl rfl ?_
          refine v_iald F dX0_decide_72 (ar_X0_24 hX hp) hi7 ?_
          refine v_if_ne F dX0_decide_73 rfl (fun hq33 => ?_) (fun hq33 => ?_)
          · rw [if_neg hq33] at h
            refine v_iconst F dX0_decide_86 ⟨by decide, by decide⟩ ?_
            exact fX0_decide_87_ok F hX hp h K
          · rw [if_pos hq33] at h
            refine v_iload F dX0_decide_76 rfl ?_
            refine v_iconst F dX0_decide_78 ⟨by decide, by decide⟩ ?_
            refine v_icmp_ne F dX0_decide_79 rfl (fun hq34 => ?_) (fun hq34 => ?_)
            · rw [if_neg hq34] at h
              refine v_iconst F dX0_decide_86 ⟨by decide, by decide⟩ ?_
              exact fX0_decide_87_ok F hX hp h K
            · rw [if_pos hq34] at h
              refine v_iconst F dX0_decide_82 ⟨by decide, by decide⟩ ?_
              refine v_goto F dX0_decide_83 rfl ?_
              exact fX0_decide_87_ok F hX hp h K
      · rw [if_neg hq6] at h
        refine v_bipush F dX0_decide_44 rfl ⟨by decide, by decide⟩ ?_
        cases h
        cases (show _ = (d', r) from K)
        exact v_iret F dX0_decide_46
    · rw [if_pos hq2] at h
      refine v_bipush F dX0_decide_25 rfl ⟨by decide, by decide⟩ ?_
      cases h
      cases (show _ = (d', r) from K)
      exact v_iret F dX0_decide_27
  · rw [if_pos hq1] at h
    refine v_iconst F dX0_decide_14 ⟨by decide, by decide⟩ ?_
    cases h
    cases (show _ = (d', r) from K)
    exact v_iret F dX0_decide_15
def fX11_rowOf_2P (w : Wd) (l : Launch) (G : Cx) (Q : State → Prop) (m : Dt) (d : Dt) (a1 : Int) (s : Int) : Prop := V w l WF G Q d m 0 0 2 [mA 1545, mI a1, mI (s)] []
theorem fX11_rowOf_2f_ok {w : Wd} {l : Launch} {G : Cx} {d m dd : Dt} {a1 : Int} {r : Int} {s : Int} {x : ((Int) ⊕ Int)} (F : Fx w G cX11_rowOf RX11 3 (some .int) { frames := 0, cells := 0, slots := 0, locals := 0 }) (hX : WF dd m) (hp : PB m 1545 11) (h : fX11_rowOf_2f d a1 s = some x) (K : (Sum.elim (fX11_rowOf_2P w l G (QM w G WF (some (mI r)) d m 0 0) m d a1) (fun q => q = r)) x) : V w l WF G (QM w G WF (some (mI r)) d m 0 0) d m 0 0 2 [mA 1545, mI a1, mI (s)] [] := by
  obtain ⟨v2, rfl⟩ : ∃ z, z = s := ⟨s, rfl⟩
  unfold fX11_rowOf_2f at h
  dsimp only at h
  refine v_iload_n F dX11_rowOf_2 rfl rfl ?_
  refine v_aload_n F dX11_rowOf_3 rfl rfl ?_
  refine gf_X11_534 F dX11_rowOf_4 hp ?_
  refine v_icmp_ge F dX11_rowOf_7 rfl (fun hq1 => ?_) (fun hq1 => ?_)
  · rw [if_pos hq1] at h
    obtain ⟨z, hu, ez⟩ := up_some h
    clear h
    subst ez
    have h := hu
    clear hu
    refine v_iconst F dX11_rowOf_28 ⟨by decide, by decide⟩ ?_
    cases h
    cases (show _ = r from K)
    exact v_iret F dX11_rowOf_29
  · rw [if_neg hq1] at h
    refine v_aload_n F dX11_rowOf_10 rfl rfl ?_
    refine gf_X11_599 F dX11_rowOf_11 hp (v := 1595) rfl ?_
    refine v_iload_n F dX11_rowOf_14 rfl rfl ?_
    obtain ⟨hi2, h⟩ := ck_some h
    refine v_iald F dX11_rowOf_15 (ar_X11_72 hX hp) hi2 ?_
    refine v_iload_n F dX11_rowOf_16 rfl rfl ?_
    refine v_icmp_ne F dX11_rowOf_17 rfl (fun hq3 => ?_) (fun hq3 => ?_)
    · rw [if_neg hq3] at h
      obtain ⟨x4, ex4, h⟩ := lv_some h
      refine v_iincN F dX11_rowOf_22 (Nat.le_of_ble_eq_true rfl) rfl ex4 (L' := [mA 1545, mI a1, mI x4]) rfl ?_
      refine v_goto F dX11_rowOf_25 rfl ?_
      cases h
      exact K
    · rw [if_pos hq3] at h
      obtain ⟨z, hu, ez⟩ := up_some h
      clear h
      subst ez
      have h := hu
      clear hu
      refine v_iload_n F dX11_rowOf_20 rfl rfl ?_
      cases h
      cases (show _ = r from K)
      exact v_iret F dX11_rowOf_21
theorem fX11_rowOf_2_ok {w : Wd} {l : Launch} {G : Cx} {d m dd : Dt} {a1 v2 : Int} {r : Int} {x : Int} (F : Fx w G cX11_rowOf RX11 3 (some .int) { frames := 0, cells := 0, slots := 0, locals := 0 }) (hX : WF dd m) (hp : PB m 1545 11) (h : fX11_rowOf_2 d a1 v2 = some x) (K : (fun q => q = r) x) : V w l WF G (QM w G WF (some (mI r)) d m 0 0) d m 0 0 2 [mA 1545, mI a1, mI v2] [] := by
  unfold fX11_rowOf_2 at h
  exact loop_ok (P := fX11_rowOf_2P w l G (QM w G WF (some (mI r)) d m 0 0) m d a1) (fun s x hx h1 h2 => fX11_rowOf_2f_ok F hX hp hx (by
    cases x with
    | inl s' => exact h1 s' rfl
    | inr z => cases h2 z rfl; exact K)) h
theorem vm_X11_rowOf {w : Wd} {l : Launch} {d m : Dt} {a1 : Int} {r : Int} (hp : PB m 1545 11) (h : fX11_rowOf d a1 = some r) : VM w l WF yX11_rowOf cX11_rowOf 3 (some .int) 0 0 0 0 d m [mA 1545, mI a1] (some (mI r)) d m := by
  obtain ⟨x, h, K⟩ : ∃ x, fX11_rowOf d a1 = some x ∧ x = r := ⟨_, h, rfl⟩
  refine VM.of (L := [mA 1545, mI a1, mU]) (by decide +kernel) rfl (Nat.le_of_ble_eq_true rfl) fun G F _ => v_fact fun _ hX _ _ => ?_
  unfold fX11_rowOf at h
  refine v_iconst F dX11_rowOf_0 ⟨by decide, by decide⟩ ?_
  refine v_istore_n F dX11_rowOf_1 rfl (Nat.le_of_ble_eq_true rfl) (L' := [mA 1545, mI a1, mI 0]) rfl ?_
  exact fX11_rowOf_2_ok F hX hp h K
def fX11_rowsOn_4P (w : Wd) (l : Launch) (G : Cx) (Q : State → Prop) (m : Dt) (d : Dt) (s : Int × Int) : Prop := V w l WF G Q d m 0 0 4 [mA 1545, mI (s.1), mI (s.2)] []
theorem fX11_rowsOn_27_ok {w : Wd} {l : Launch} {G : Cx} {d m dd : Dt} {v2 s0 s1 : Int} {r : Int} {x : ((Int × Int) ⊕ Int)} (F : Fx w G cX11_rowsOn RX11 3 (some .int) { frames := 0, cells := 0, slots := 0, locals := 0 }) (hX : WF dd m) (hp : PB m 1545 11) (h : fX11_rowsOn_27 d v2 s0 s1 = some x) (K : (Sum.elim (fX11_rowsOn_4P w l G (QM w G WF (some (mI r)) d m 0 0) m d) (fun q => q = r)) x) : V w l WF G (QM w G WF (some (mI r)) d m 0 0) d m 0 0 27 [mA 1545, mU, mI v2] [mI s1, mI s0] := by
  unfold fX11_rowsOn_27 at h
  refine v_iadd F dX11_rowsOn_27 ?_
  obtain ⟨x4, ex4, h⟩ := lv_some h
  refine v_nI ex4 ?_
  refine v_istore_n F dX11_rowsOn_28 rfl (Nat.le_of_ble_eq_true rfl) (L' := [mA 1545, mI x4, mI v2]) rfl ?_
  obtain ⟨x5, ex5, h⟩ := lv_some h
  refine v_iincN F dX11_rowsOn_29 (Nat.le_of_ble_eq_true rfl) rfl ex5 (L' := [mA 1545, mI x4, mI x5]) rfl ?_
  refine v_goto F dX11_rowsOn_32 rfl ?_
  cases h
  exact K
theorem fX11_rowsOn_4f_ok {w : Wd} {l : Launch} {G : Cx} {d m dd : Dt} {r : Int} {s : Int × Int} {x : ((Int × Int) ⊕ Int)} (F : Fx w G cX11_rowsOn RX11 3 (some .int) { frames := 0, cells := 0, slots := 0, locals := 0 }) (hX : WF dd m) (hp : PB m 1545 11) (h : fX11_rowsOn_4f d s = some x) (K : (Sum.elim (fX11_rowsOn_4P w l G (QM w G WF (some (mI r)) d m 0 0) m d) (fun q => q = r)) x) : V w l WF G (QM w G WF (some (mI r)) d m 0 0) d m 0 0 4 [mA 1545, mI (s.1), mI (s.2)] [] := by
  obtain ⟨v1, v2⟩ := s
  unfold fX11_rowsOn_4f at h
  dsimp only at h
  refine v_iload_n F dX11_rowsOn_4 rfl rfl ?_
  refine v_aload_n F dX11_rowsOn_5 rfl rfl ?_
  refine gf_X11_534 F dX11_rowsOn_6 hp ?_
  refine v_icmp_ge F dX11_rowsOn_9 rfl (fun hq1 => ?_) (fun hq1 => ?_)
  · rw [if_pos hq1] at h
    obtain ⟨z, hu, ez⟩ := up_some h
    clear h
    subst ez
    have h := hu
    clear hu
    refine v_iload_n F dX11_rowsOn_35 rfl rfl ?_
    cases h
    cases (show _ = r from K)
    exact v_iret F dX11_rowsOn_36
  · rw [if_neg hq1] at h
    refine v_iload_n F dX11_rowsOn_12 rfl rfl ?_
    refine v_aload_n F dX11_rowsOn_13 rfl rfl ?_
    refine gf_X11_605 F dX11_rowsOn_14 hp (v := 1597) rfl ?_
    refine v_iload_n F dX11_rowsOn_17 rfl rfl ?_
    obtain ⟨hi2, h⟩ := ck_some h
    refine v_zald F dX11_rowsOn_18 (ar_X11_74 hX hp) hi2 ?_
    refine v_if_eq F dX11_rowsOn_19 rfl (fun hq3 => ?_) (fun hq3 => ?_)
    · rw [if_pos hq3] at h
      refine v_iconst F dX11_rowsOn_26 ⟨by decide, by decide⟩ ?_
      refine v_fgt (L' := [mA 1545, mU, mI v2]) ⟨Or.inl rfl, Or.inr rfl, Or.inl rfl, trivial⟩ ?_
      exact fX11_rowsOn_27_ok F hX hp h K
    · rw [if_neg hq3] at h
      refine v_iconst F dX11_rowsOn_22 ⟨by decide, by decide⟩ ?_
      refine v_goto F dX11_rowsOn_23 rfl ?_
      refine v_fgt (L' := [mA 1545, mU, mI v2]) ⟨Or.inl rfl, Or.inr rfl, Or.inl rfl, trivial⟩ ?_
      exact fX11_rowsOn_27_ok F hX hp h K
theorem fX11_rowsOn_4_ok {w : Wd} {l : Launch} {G : Cx} {d m dd : Dt} {v1 v2 : Int} {r : Int} {x : Int} (F : Fx w G cX11_rowsOn RX11 3 (some .int) { frames := 0, cells := 0, slots := 0, locals := 0 }) (hX : WF dd m) (hp : PB m 1545 11) (h : fX11_rowsOn_4 d v1 v2 = some x) (K : (fun q => q = r) x) : V w l WF G (QM w G WF (some (mI r)) d m 0 0) d m 0 0 4 [mA 1545, mI v1, mI v2] [] := by
  unfold fX11_rowsOn_4 at h
  exact loop_ok (P := fX11_rowsOn_4P w l G (QM w G WF (some (mI r)) d m 0 0) m d) (fun s x hx h1 h2 => fX11_rowsOn_4f_ok F hX hp hx (by
    cases x with
    | inl s' => exact h1 s' rfl
    | inr z => cases h2 z rfl; exact K)) h
theorem vm_X11_rowsOn {w : Wd} {l : Launch} {d m : Dt} {r : Int} (hp : PB m 1545 11) (h : fX11_rowsOn d = some r) : VM w l WF yX11_rowsOn cX11_rowsOn 3 (some .int) 0 0 0 0 d m [mA 1545] (some (mI r)) d m := by
  obtain ⟨x, h, K⟩ : ∃ x, fX11_rowsOn d = some x ∧ x = r := ⟨_, h, rfl⟩
  refine VM.of (L := [mA 1545, mU, mU]) (by decide +kernel) rfl (Nat.le_of_ble_eq_true rfl) fun G F _ => v_fact fun _ hX _ _ => ?_
  unfold fX11_rowsOn at h
  refine v_iconst F dX11_rowsOn_0 ⟨by decide, by decide⟩ ?_
  refine v_istore_n F dX11_rowsOn_1 rfl (Nat.le_of_ble_eq_true rfl) (L' := [mA 1545, mI 0, mU]) rfl ?_
  refine v_iconst F dX11_rowsOn_2 ⟨by decide, by decide⟩ ?_
  refine v_istore_n F dX11_rowsOn_3 rfl (Nat.le_of_ble_eq_true rfl) (L' := [mA 1545, mI 0, mI 0]) rfl ?_
  exact fX11_rowsOn_4_ok F hX hp h K
theorem fX11_decide_181_ok {w : Wd} {l : Launch} {G : Cx} {d m dd : Dt} {a1 a2 : Int} {d' : Dt} {r : Int} {x : (Dt × Int)} (F : Fx w G cX11_decide RX11 6 (some .int) { frames := 4, cells := 0, slots := 0, locals := 98 }) (hX : WF dd m) (hp : PB m 1545 11) (h : fX11_decide_181 d a1 a2 = some x) (K : (fun q => q = (d', r)) x) : V w l WF G (QM w G WF (some (mI r)) d' m 0 0) d m 0 0 181 [mA 1545, mI a1, mI a2, mU, mU, mU] [] := by
  unfold fX11_decide_181 at h
  refine v_aload_n F dX11_decide_181 rfl rfl ?_
  refine v_bipush F dX11_decide_182 rfl ⟨by decide, by decide⟩ ?_
  refine v_iload_n F dX11_decide_184 rfl rfl ?_
  refine v_iload_n F dX11_decide_185 rfl rfl ?_
  refine v_iconst F dX11_decide_186 ⟨by decide, by decide⟩ ?_
  refine v_iconst F dX11_decide_187 ⟨by decide, by decide⟩ ?_
  obtain ⟨d18, hc19, h⟩ := bd_some h
  refine v_callV0 (c := 11) F dX11_decide_188 cv_X11_22 rfl (PB.ob hp hX (Nat.le_of_ble_eq_true rfl)) (Nat.le_of_ble_eq_true rfl) rfl (vm_X11_write hp hc19) rfl (rOk.of rfl) ?_
  refine v_aload_n F dX11_decide_191 rfl rfl ?_
  obtain ⟨x20, hc21, h⟩ := b1_some h
  refine v_callVv (c := 11) F dX11_decide_192 cv_X11_635 rfl (PB.ob hp hX (Nat.le_of_ble_eq_true rfl)) (Nat.le_of_ble_eq_true rfl) rfl (vm_X11_rowsOn hp hc21) rfl (rOk.of rfl) ?_
  cases h
  cases (show _ = (d', r) from K)
  exact v_iret F dX11_decide_195
theorem fX11_decide_180_ok {w : Wd} {l : Launch} {G : Cx} {d m dd : Dt} {a1 a2 s1 s2 : Int} {d' : Dt} {r : Int} {x : (Dt × Int)} (F : Fx w G cX11_decide RX11 6 (some .int) { frames := 4, cells := 0, slots := 0, locals := 98 }) (hX : WF dd m) (hp : PB m 1545 11) (h : fX11_decide_180 d a1 a2 s1 s2 = some x) (K : (fun q => q = (d', r)) x) : V w l WF G (QM w G WF (some (mI r)) d' m 0 0) d m 0 0 180 [mA 1545, mI a1, mI a2, mU, mU, mU] [mI s2, mI s1, mA 1597] := by
  unfold fX11_decide_180 at h
  obtain ⟨hi24, h⟩ := ck_some h
  obtain ⟨d25, ed25, h⟩ := sd_some h
  refine v_zast F dX11_decide_180 (ar_X11_74 hX hp) hi24 ?_
  refine v_nD ed25 ?_
  exact fX11_decide_181_ok F hX hp h K
theorem fX11_decide_125_ok {w : Wd} {l : Launch} {G : Cx} {d m dd : Dt} {a1 a2 v3 v4 v5 : Int} {d' : Dt} {r : Int} {x : (Dt × Int)} (F : Fx w G cX11_decide RX11 6 (some .int) { frames := 4, cells := 0, slots := 0, locals := 98 }) (hX : WF dd m) (hp : PB m 1545 11) (h : fX11_decide_125 d a1 a2 v3 v4 v5 = some x) (K : (fun q => q = (d', r)) x) : V w l WF G (QM w G WF (some (mI r)) d' m 0 0) d m 0 0 125 [mA 1545, mI a1, mI a2, mI v3, mI v4, mI v5] [] := by
  unfold fX11_decide_125 at h
  refine v_aload_n F dX11_decide_125 rfl rfl ?_
  refine gf_X11_629 F dX11_decide_126 hp (v := 1600) rfl ?_
  refine v_iload_n F dX11_decide_129 rfl rfl ?_
  refine v_iconst F dX11_decide_130 ⟨by decide, by decide⟩ ?_
  obtain ⟨hi14, h⟩ := ck_some h
  obtain ⟨d15, ed15, h⟩ := sd_some h
  refine v_zast F dX11_decide_131 (ar_X11_78 hX hp) hi14 ?_
  refine v_nD ed15 ?_
  refine v_iload F dX11_decide_132 rfl ?_
  refine v_if_eq F dX11_decide_134 rfl (fun hq16 => ?_) (fun hq16 => ?_)
  · rw [if_pos hq16] at h
    refine v_iload_n F dX11_decide_152 rfl rfl ?_
    refine v_iconst F dX11_decide_153 ⟨by decide, by decide⟩ ?_
    refine v_icmp_ne F dX11_decide_154 rfl (fun hq17 => ?_) (fun hq17 => ?_)
    · rw [if_neg hq17] at h
      refine v_fgt (L' := [mA 1545, mI a1, mI a2, mU, mU, mU]) ⟨Or.inl rfl, Or.inl rfl, Or.inl rfl, Or.inr rfl, Or.inr rfl, Or.inr rfl, trivial⟩ ?_
      exact fX11_decide_181_ok F hX hp h K
    · rw [if_pos hq17] at h
      refine v_iload_n F dX11_decide_157 rfl rfl ?_
      refine v_if_lt F dX11_decide_158 rfl (fun hq22 => ?_) (fun hq22 => ?_)
      · rw [if_pos hq22] at h
        refine v_fgt (L' := [mA 1545, mI a1, mI a2, mU, mU, mU]) ⟨Or.inl rfl, Or.inl rfl, Or.inl rfl, Or.inr rfl, Or.inr rfl, Or.inr rfl, trivial⟩ ?_
        exact fX11_decide_181_ok F hX hp h K
      · rw [if_neg hq22] at h
        refine v_aload_n F dX11_decide_161 rfl rfl ?_
        refine gf_X11_605 F dX11_decide_162 hp (v := 1597) rfl ?_
        refine v_iload_n F dX11_decide_165 rfl rfl ?_
        refine v_aload_n F dX11_decide_166 rfl rfl ?_
        refine gf_X11_626 F dX11_decide_167 hp (v := 1599) rfl ?_
        refine v_iload_n F dX11_decide_170 rfl rfl ?_
        refine v_iald F dX11_decide_171 (ar_X11_77 hX hp) hi14 ?_
        refine v_if_ne F dX11_decide_172 rfl (fun hq23 => ?_) (fun hq23 => ?_)
        · rw [if_neg hq23] at h
          refine v_iconst F dX11_decide_179 ⟨by decide, by decide⟩ ?_
          refine v_fgt (L' := [mA 1545, mI a1, mI a2, mU, mU, mU]) ⟨Or.inl rfl, Or.inl rfl, Or.inl rfl, Or.inr rfl, Or.inr rfl, Or.inr rfl, trivial⟩ ?_
          exact fX11_decide_180_ok F hX hp h K
        · rw [if_pos hq23] at h
          refine v_iconst F dX11_decide_175 ⟨by decide, by decide⟩ ?_
          refine v_goto F dX11_decide_176 rfl ?_
          refine v_fgt (L' := [mA 1545, mI a1, mI a2, mU, mU, mU]) ⟨Or.inl rfl, Or.inl rfl, Or.inl rfl, Or.inr rfl, Or.inr rfl, Or.inr rfl, trivial⟩ ?_
          exact fX11_decide_180_ok F hX hp h K
  · rw [if_neg hq16] at h
    refine v_aload_n F dX11_decide_137 rfl rfl ?_
    refine v_aload_n F dX11_decide_138 rfl rfl ?_
    refine gf_X11_623 F dX11_decide_139 hp (v := 1598) rfl ?_
    refine v_iload_n F dX11_decide_142 rfl rfl ?_
    refine v_iald F dX11_decide_143 (ar_X11_76 hX hp) hi14 ?_
    refine v_iload F dX11_decide_144 rfl ?_
    obtain ⟨d26, hc27, h⟩ := bd_some h
    refine v_callV0 (c := 11) F dX11_decide_146 cv_X11_620 rfl (PB.ob hp hX (Nat.le_of_ble_eq_true rfl)) (Nat.le_of_ble_eq_true rfl) rfl (vm_X11_addRow hp hc27) rfl (rOk.of rfl) ?_
    refine v_goto F dX11_decide_149 rfl ?_
    refine v_fgt (L' := [mA 1545, mI a1, mI a2, mU, mU, mU]) ⟨Or.inl rfl, Or.inl rfl, Or.inl rfl, Or.inr rfl, Or.inr rfl, Or.inr rfl, trivial⟩ ?_
    exact fX11_decide_181_ok F hX hp h K
theorem fX11_decide_101_ok {w : Wd} {l : Launch} {G : Cx} {d m dd : Dt} {a1 a2 v3 v4 s0 : Int} {d' : Dt} {r : Int} {x : (Dt × Int)} (F : Fx w G cX11_decide RX11 6 (some .int) { frames := 4, cells := 0, slots := 0, locals := 98 }) (hX : WF dd m) (hp : PB m 1545 11) (h : fX11_decide_101 d a1 a2 v3 v4 s0 = some x) (K : (fun q => q = (d', r)) x) : V w l WF G (QM w G WF (some (mI r)) d' m 0 0) d m 0 0 101 [mA 1545, mI a1, mI a2, mI v3, mI v4, mU] [mI s0] := by
  unfold fX11_decide_101 at h
  refine v_istore F dX11_decide_101 (Nat.le_of_ble_eq_true rfl) (L' := [mA 1545, mI a1, mI a2, mI v3, mI v4, mI s0]) rfl ?_
  refine v_aload_n F dX11_decide_103 rfl rfl ?_
  refine gf_X11_629 F dX11_decide_104 hp (v := 1600) rfl ?_
  refine v_iload_n F dX11_decide_107 rfl rfl ?_
  obtain ⟨hi11, h⟩ := ck_some h
  refine v_zald F dX11_decide_108 (ar_X11_78 hX hp) hi11 ?_
  refine v_if_ne F dX11_decide_109 rfl (fun hq12 => ?_) (fun hq12 => ?_)
  · rw [if_neg hq12] at h
    refine v_bipush F dX11_decide_122 rfl ⟨by decide, by decide⟩ ?_
    cases h
    cases (show _ = (d', r) from K)
    exact v_iret F dX11_decide_124
  · rw [if_pos hq12] at h
    refine v_iload F dX11_decide_112 rfl ?_
    refine v_if_eq F dX11_decide_114 rfl (fun hq13 => ?_) (fun hq13 => ?_)
    · rw [if_pos hq13] at h
      exact fX11_decide_125_ok F hX hp h K
    · rw [if_neg hq13] at h
      refine v_iload F dX11_decide_117 rfl ?_
      refine v_if_ne F dX11_decide_119 rfl (fun hq28 => ?_) (fun hq28 => ?_)
      · rw [if_neg hq28] at h
        exact fX11_decide_125_ok F hX hp h K
      · rw [if_pos hq28] at h
        refine v_bipush F dX11_decide_122 rfl ⟨by decide, by decide⟩ ?_
        cases h
        cases (show _ = (d', r) from K)
        exact v_iret F dX11_decide_124
theorem fX11_decide_80_ok {w : Wd} {l : Launch} {G : Cx} {d m dd : Dt} {a1 a2 v3 s0 : Int} {d' : Dt} {r : Int} {x : (Dt × Int)} (F : Fx w G cX11_decide RX11 6 (some .int) { frames := 4, cells := 0, slots := 0, locals := 98 }) (hX : WF dd m) (hp : PB m 1545 11) (h : fX11_decide_80 d a1 a2 v3 s0 = some x) (K : (fun q => q = (d', r)) x) : V w l WF G (QM w G WF (some (mI r)) d' m 0 0) d m 0 0 80 [mA 1545, mI a1, mI a2, mI v3, mU, mU] [mI s0] := by
  unfold fX11_decide_80 at h
  refine v_istore F dX11_decide_80 (Nat.le_of_ble_eq_true rfl) (L' := [mA 1545, mI a1, mI a2, mI v3, mI s0, mU]) rfl ?_
  refine v_iload F dX11_decide_82 rfl ?_
  refine v_if_eq F dX11_decide_84 rfl (fun hq10 => ?_) (fun hq10 => ?_)
  · rw [if_pos hq10] at h
    refine v_iconst F dX11_decide_100 ⟨by decide, by decide⟩ ?_
    exact fX11_decide_101_ok F hX hp h K
  · rw [if_neg hq10] at h
    refine v_aload_n F dX11_decide_87 rfl rfl ?_
    refine v_aload_n F dX11_decide_88 rfl rfl ?_
    refine gf_X11_623 F dX11_decide_89 hp (v := 1598) rfl ?_
    refine v_iload_n F dX11_decide_92 rfl rfl ?_
    obtain ⟨hi29, h⟩ := ck_some h
    refine v_iald F dX11_decide_93 (ar_X11_76 hX hp) hi29 ?_
    obtain ⟨x30, hc31, h⟩ := b1_some h
    refine v_callVv (c := 11) F dX11_decide_94 cv_X11_617 rfl (PB.ob hp hX (Nat.le_of_ble_eq_true rfl)) (Nat.le_of_ble_eq_true rfl) rfl (vm_X11_sheetOf hp hc31) rfl (rOk.of rfl) ?_
    refine v_goto F dX11_decide_97 rfl ?_
    exact fX11_decide_101_ok F hX hp h K
theorem vm_X11_decide {w : Wd} {l : Launch} {d m : Dt} {a1 a2 : Int} {d' : Dt} {r : Int} (hp : PB m 1545 11) (h : fX11_decide d a1 a2 = some (d', r)) : VM w l WF yX11_decide cX11_decide 6 (some .int) 4 98 0 0 d m [mA 1545, mI a1, mI a2] (some (mI r)) d' m := by
  obtain ⟨x, h, K⟩ : ∃ x, fX11_decide d a1 a2 = some x ∧ x = (d', r) := ⟨_, h, rfl⟩
  refine VM.of (L := [mA 1545, mI a1, mI a2, mU, mU, mU]) (by decide +kernel) rfl (Nat.le_of_ble_eq_true rfl) fun G F _ => v_fact fun _ hX _ _ => ?_
  unfold fX11_decide at h
  refine v_iload_n F dX11_decide_0 rfl rfl ?_
  refine v_i2l F dX11_decide_1 ?_
  refine v_lconst0 F dX11_decide_2 ?_
  refine v_aload_n F dX11_decide_3 rfl rfl ?_
  refine gf_X11_537 F dX11_decide_4 hp ?_
  refine v_iconst F dX11_decide_7 ⟨by decide, by decide⟩ ?_
  refine v_isub F dX11_decide_8 ?_
  refine v_i2l F dX11_decide_9 ?_
  refine v_callSv F dX11_decide_10 cs_X11_13 rfl (vm_X11_in) rfl (rOk.of rfl) ?_
  refine v_if_ne F dX11_decide_13 rfl (fun hq1 => ?_) (fun hq1 => ?_)
  · rw [if_neg hq1] at h
    refine v_iload_n F dX11_decide_18 rfl rfl ?_
    refine v_i2l F dX11_decide_19 ?_
    refine v_lconst0 F dX11_decide_20 ?_
    refine v_lconst1 F dX11_decide_21 ?_
    refine v_callSv F dX11_decide_22 cs_X11_13 rfl (vm_X11_in) rfl (rOk.of rfl) ?_
    refine v_if_ne F dX11_decide_25 rfl (fun hq2 => ?_) (fun hq2 => ?_)
    · rw [if_neg hq2] at h
      refine v_aload_n F dX11_decide_31 rfl rfl ?_
      refine gf_X11_17 F dX11_decide_32 hp ?_
      refine v_aload_n F dX11_decide_35 rfl rfl ?_
      refine v_iconst F dX11_decide_36 ⟨by decide, by decide⟩ ?_
      obtain ⟨x3, hc4, h⟩ := b1_some h
      refine v_callVv (c := 11) F dX11_decide_37 cv_X11_466 rfl (PB.ob hp hX (Nat.le_of_ble_eq_true rfl)) (Nat.le_of_ble_eq_true rfl) rfl (vm_X11_lawIs hp hc4) rfl (rOk.of rfl) ?_
      refine v_icmp_le F dX11_decide_40 rfl (fun hq5 => ?_) (fun hq5 => ?_)
      · rw [if_pos hq5] at h
        refine v_aload_n F dX11_decide_46 rfl rfl ?_
        refine v_aload_n F dX11_decide_47 rfl rfl ?_
        refine gf_X11_623 F dX11_decide_48 hp (v := 1598) rfl ?_
        refine v_iload_n F dX11_decide_51 rfl rfl ?_
        obtain ⟨hi6, h⟩ := ck_some h
        refine v_iald F dX11_decide_52 (ar_X11_76 hX hp) hi6 ?_
        obtain ⟨x7, hc8, h⟩ := b1_some h
        refine v_callVv (c := 11) F dX11_decide_53 cv_X11_632 rfl (PB.ob hp hX (Nat.le_of_ble_eq_true rfl)) (Nat.le_of_ble_eq_true rfl) rfl (vm_X11_rowOf hp hc8) rfl (rOk.of rfl) ?_
        refine v_istore_n F dX11_decide_56 rfl (Nat.le_of_ble_eq_true rfl) (L' := [mA 1545, mI a1, mI a2, mI x7, mU, mU]) rfl ?_
        refine v_iload_n F dX11_decide_57 rfl rfl ?_
        refine v_iconst F dX11_decide_58 ⟨by decide, by decide⟩ ?_
        refine v_icmp_ne F dX11_decide_59 rfl (fun hq9 => ?_) (fun hq9 => ?_)
        · rw [if_neg hq9] at h
          refine v_iconst F dX11_decide_79 ⟨by decide, by decide⟩ ?_
          exact fX11_decide_80_ok F hX hp h K
        · rw [if_pos hq9] at h
          refine v_aload_n F dX11_decide_62 rfl rfl ?_
          refine gf_X11_626 F dX11_decide_63 hp (v := 1599) rfl ?_
          refine v_iload_n F dX11_decide_66 rfl rfl ?_
          refine v_iald F dX11_decide_67 (ar_X11_77 hX hp) hi6 ?_
          refine v_if_ne F dX11_decide_68 rfl (fun hq32 => ?_) (fun hq32 => ?_)
          · rw [if_neg hq32] at h
            refine v_iconst F dX11_decide_79 ⟨by decide, by decide⟩ ?_
            exact fX11_decide_80_ok F hX hp h K
          · rw [if_pos hq32] at h
            refine v_iload_n F dX11_decide_71 rfl rfl ?_
            refine v_if_ge F dX11_decide_72 rfl (fun hq33 => ?_) (fun hq33 => ?_)
            · rw [if_pos hq33] at h
              refine v_iconst F dX11_decide_79 ⟨by decide, by decide⟩ ?_
              exact fX11_decide_80_ok F hX hp h K
            · rw [if_neg hq33] at h
              refine v_iconst F dX11_decide_75 ⟨by decide, by decide⟩ ?_
              refine v_goto F dX11_decide_76 rfl ?_
              exact fX11_decide_80_ok F hX hp h K
      · rw [if_neg hq5] at h
        refine v_bipush F dX11_decide_43 rfl ⟨by decide, by decide⟩ ?_
        cases h
        cases (show _ = (d', r) from K)
        exact v_iret F dX11_decide_45
    · rw [if_pos hq2] at h
      refine v_bipush F dX11_decide_28 rfl ⟨by decide, by decide⟩ ?_
      cases h
      cases (show _ = (d', r) from K)
      exact v_iret F dX11_decide_30
  · rw [if_pos hq1] at h
    refine v_iconst F dX11_decide_16 ⟨by decide, by decide⟩ ?_
    cases h
    cases (show _ = (d', r) from K)
    exact v_iret F dX11_decide_17
def fX0_nextSheet_4P (w : Wd) (l : Launch) (G : Cx) (Q : State → Prop) (m : Dt) (d : Dt) (a1 : Int) (s : Int × Int) : Prop := V w l WF G Q d m 0 0 4 [mA 1, mI a1, mI (s.1), mI (s.2), mU] []
theorem fX0_nextSheet_4f_ok {w : Wd} {l : Launch} {G : Cx} {d m dd : Dt} {a1 : Int} {r : Int} {s : Int × Int} {x : ((Int × Int) ⊕ Int)} (F : Fx w G cX0_nextSheet RX0 5 (some .int) { frames := 0, cells := 0, slots := 0, locals := 0 }) (hX : WF dd m) (hp : PB m 1 0) (h : fX0_nextSheet_4f d a1 s = some x) (K : (Sum.elim (fX0_nextSheet_4P w l G (QM w G WF (some (mI r)) d m 0 0) m d a1) (fun q => q = r)) x) : V w l WF G (QM w G WF (some (mI r)) d m 0 0) d m 0 0 4 [mA 1, mI a1, mI (s.1), mI (s.2), mU] [] := by
  obtain ⟨v2, v3⟩ := s
  unfold fX0_nextSheet_4f at h
  dsimp only at h
  refine v_iload_n F dX0_nextSheet_4 rfl rfl ?_
  refine v_aload_n F dX0_nextSheet_5 rfl rfl ?_
  refine gf_X0_268 F dX0_nextSheet_6 hp ?_
  refine v_icmp_ge F dX0_nextSheet_9 rfl (fun hq1 => ?_) (fun hq1 => ?_)
  · rw [if_pos hq1] at h
    obtain ⟨z, hu, ez⟩ := up_some h
    clear h
    subst ez
    have h := hu
    clear hu
    refine v_iload_n F dX0_nextSheet_58 rfl rfl ?_
    cases h
    cases (show _ = r from K)
    exact v_iret F dX0_nextSheet_59
  · rw [if_neg hq1] at h
    refine v_aload_n F dX0_nextSheet_12 rfl rfl ?_
    refine gf_X0_79 F dX0_nextSheet_13 hp (v := 61) rfl ?_
    refine v_iload_n F dX0_nextSheet_16 rfl rfl ?_
    obtain ⟨hi2, h⟩ := ck_some h
    refine v_iald F dX0_nextSheet_17 (ar_X0_19 hX hp) hi2 ?_
    obtain ⟨x3, ex3, h⟩ := lv_some h
    refine v_nI ex3 ?_
    refine v_istore F dX0_nextSheet_18 (Nat.le_of_ble_eq_true rfl) (L' := [mA 1, mI a1, mI v2, mI v3, mI x3]) rfl ?_
    refine v_aload_n F dX0_nextSheet_20 rfl rfl ?_
    refine gf_X0_82 F dX0_nextSheet_21 hp (v := 62) rfl ?_
    refine v_iload_n F dX0_nextSheet_24 rfl rfl ?_
    refine v_zald F dX0_nextSheet_25 (ar_X0_20 hX hp) hi2 ?_
    refine v_if_eq F dX0_nextSheet_26 rfl (fun hq4 => ?_) (fun hq4 => ?_)
    · rw [if_pos hq4] at h
      refine v_iload_n F dX0_nextSheet_50 rfl rfl ?_
      refine v_istore_n F dX0_nextSheet_51 rfl (Nat.le_of_ble_eq_true rfl) (L' := [mA 1, mI a1, mI v2, mI v3, mI x3]) rfl ?_
      obtain ⟨x5, ex5, h⟩ := lv_some h
      refine v_iincN F dX0_nextSheet_52 (Nat.le_of_ble_eq_true rfl) rfl ex5 (L' := [mA 1, mI a1, mI v2, mI x5, mI x3]) rfl ?_
      refine v_goto F dX0_nextSheet_55 rfl ?_
      cases h
      refine v_fgt (L' := [mA 1, mI a1, mI v2, mI x5, mU]) ⟨Or.inl rfl, Or.inl rfl, Or.inl rfl, Or.inl rfl, Or.inr rfl, trivial⟩ ?_
      exact K
    · rw [if_neg hq4] at h
      refine v_iload F dX0_nextSheet_29 rfl ?_
      refine v_iload_n F dX0_nextSheet_31 rfl rfl ?_
      refine v_icmp_le F dX0_nextSheet_32 rfl (fun hq6 => ?_) (fun hq6 => ?_)
      · rw [if_pos hq6] at h
        refine v_iload_n F dX0_nextSheet_50 rfl rfl ?_
        refine v_istore_n F dX0_nextSheet_51 rfl (Nat.le_of_ble_eq_true rfl) (L' := [mA 1, mI a1, mI v2, mI v3, mI x3]) rfl ?_
        obtain ⟨x7, ex7, h⟩ := lv_some h
        refine v_iincN F dX0_nextSheet_52 (Nat.le_of_ble_eq_true rfl) rfl ex7 (L' := [mA 1, mI a1, mI v2, mI x7, mI x3]) rfl ?_
        refine v_goto F dX0_nextSheet_55 rfl ?_
        cases h
        refine v_fgt (L' := [mA 1, mI a1, mI v2, mI x7, mU]) ⟨Or.inl rfl, Or.inl rfl, Or.inl rfl, Or.inl rfl, Or.inr rfl, trivial⟩ ?_
        exact K
      · rw [if_neg hq6] at h
        refine v_iload_n F dX0_nextSheet_35 rfl rfl ?_
        refine v_if_eq F dX0_nextSheet_36 rfl (fun hq8 => ?_) (fun hq8 => ?_)
        · rw [if_pos hq8] at h
          refine v_iload F dX0_nextSheet_45 rfl ?_
          refine v_goto F dX0_nextSheet_47 rfl ?_
          refine v_istore_n F dX0_nextSheet_51 rfl (Nat.le_of_ble_eq_true rfl) (L' := [mA 1, mI a1, mI x3, mI v3, mI x3]) rfl ?_
          obtain ⟨x9, ex9, h⟩ := lv_some h
          refine v_iincN F dX0_nextSheet_52 (Nat.le_of_ble_eq_true rfl) rfl ex9 (L' := [mA 1, mI a1, mI x3, mI x9, mI x3]) rfl ?_
          refine v_goto F dX0_nextSheet_55 rfl ?_
          cases h
          refine v_fgt (L' := [mA 1, mI a1, mI x3, mI x9, mU]) ⟨Or.inl rfl, Or.inl rfl, Or.inl rfl, Or.inl rfl, Or.inr rfl, trivial⟩ ?_
          exact K
        · rw [if_neg hq8] at h
          refine v_iload F dX0_nextSheet_39 rfl ?_
          refine v_iload_n F dX0_nextSheet_41 rfl rfl ?_
          refine v_icmp_ge F dX0_nextSheet_42 rfl (fun hq10 => ?_) (fun hq10 => ?_)
          · rw [if_pos hq10] at h
            refine v_iload_n F dX0_nextSheet_50 rfl rfl ?_
            refine v_istore_n F dX0_nextSheet_51 rfl (Nat.le_of_ble_eq_true rfl) (L' := [mA 1, mI a1, mI v2, mI v3, mI x3]) rfl ?_
            obtain ⟨x11, ex11, h⟩ := lv_some h
            refine v_iincN F dX0_nextSheet_52 (Nat.le_of_ble_eq_true rfl) rfl ex11 (L' := [mA 1, mI a1, mI v2, mI x11, mI x3]) rfl ?_
            refine v_goto F dX0_nextSheet_55 rfl ?_
            cases h
            refine v_fgt (L' := [mA 1, mI a1, mI v2, mI x11, mU]) ⟨Or.inl rfl, Or.inl rfl, Or.inl rfl, Or.inl rfl, Or.inr rfl, trivial⟩ ?_
            exact K
          · rw [if_neg hq10] at h
            refine v_iload F dX0_nextSheet_45 rfl ?_
            refine v_goto F dX0_nextSheet_47 rfl ?_
            refine v_istore_n F dX0_nextSheet_51 rfl (Nat.le_of_ble_eq_true rfl) (L' := [mA 1, mI a1, mI x3, mI v3, mI x3]) rfl ?_
            obtain ⟨x12, ex12, h⟩ := lv_some h
            refine v_iincN F dX0_nextSheet_52 (Nat.le_of_ble_eq_true rfl) rfl ex12 (L' := [mA 1, mI a1, mI x3, mI x12, mI x3]) rfl ?_
            refine v_goto F dX0_nextSheet_55 rfl ?_
            cases h
            refine v_fgt (L' := [mA 1, mI a1, mI x3, mI x12, mU]) ⟨Or.inl rfl, Or.inl rfl, Or.inl rfl, Or.inl rfl, Or.inr rfl, trivial⟩ ?_
            exact K
theorem fX0_nextSheet_4_ok {w : Wd} {l : Launch} {G : Cx} {d m dd : Dt} {a1 v2 v3 : Int} {r : Int} {x : Int} (F : Fx w G cX0_nextSheet RX0 5 (some .int) { frames := 0, cells := 0, slots := 0, locals := 0 }) (hX : WF dd m) (hp : PB m 1 0) (h : fX0_nextSheet_4 d a1 v2 v3 = some x) (K : (fun q => q = r) x) : V w l WF G (QM w G WF (some (mI r)) d m 0 0) d m 0 0 4 [mA 1, mI a1, mI v2, mI v3, mU] [] := by
  unfold fX0_nextSheet_4 at h
  exact loop_ok (P := fX0_nextSheet_4P w l G (QM w G WF (some (mI r)) d m 0 0) m d a1) (fun s x hx h1 h2 => fX0_nextSheet_4f_ok F hX hp hx (by
    cases x with
    | inl s' => exact h1 s' rfl
    | inr z => cases h2 z rfl; exact K)) h
theorem vm_X0_nextSheet {w : Wd} {l : Launch} {d m : Dt} {a1 : Int} {r : Int} (hp : PB m 1 0) (h : fX0_nextSheet d a1 = some r) : VM w l WF yX0_nextSheet cX0_nextSheet 5 (some .int) 0 0 0 0 d m [mA 1, mI a1] (some (mI r)) d m := by
  obtain ⟨x, h, K⟩ : ∃ x, fX0_nextSheet d a1 = some x ∧ x = r := ⟨_, h, rfl⟩
  refine VM.of (L := [mA 1, mI a1, mU, mU, mU]) (by decide +kernel) rfl (Nat.le_of_ble_eq_true rfl) fun G F _ => v_fact fun _ hX _ _ => ?_
  unfold fX0_nextSheet at h
  refine v_iconst F dX0_nextSheet_0 ⟨by decide, by decide⟩ ?_
  refine v_istore_n F dX0_nextSheet_1 rfl (Nat.le_of_ble_eq_true rfl) (L' := [mA 1, mI a1, mI 0, mU, mU]) rfl ?_
  refine v_iconst F dX0_nextSheet_2 ⟨by decide, by decide⟩ ?_
  refine v_istore_n F dX0_nextSheet_3 rfl (Nat.le_of_ble_eq_true rfl) (L' := [mA 1, mI a1, mI 0, mI 0, mU]) rfl ?_
  exact fX0_nextSheet_4_ok F hX hp h K
def fX0_sheets_17P (w : Wd) (l : Launch) (G : Cx) (Q : State → Prop) (m : Dt) (d : Dt) (a1 a2 : Int) (s : Int × Int) : Prop := V w l WF G Q d m 0 0 17 [mA 1, mI a1, mI a2, mI (s.1), mI (s.2), mU] []
def fX0_sheets_51P (w : Wd) (l : Launch) (G : Cx) (Q : State → Prop) (m : Dt) (d : Dt) (a1 a2 v3 : Int) (s : Int × Int) : Prop := V w l WF G Q d m 0 0 51 [mA 1, mU, mI a2, mI v3, mI (s.1), mI (s.2)] []
theorem fX0_sheets_88_ok {w : Wd} {l : Launch} {G : Cx} {d m dd : Dt} {a1 a2 v3 v5 s0 s1 : Int} {r : Int} {x : ((Int × Int) ⊕ Int)} (F : Fx w G cX0_sheets RX0 6 (some .int) { frames := 1, cells := 0, slots := 0, locals := 24 }) (hX : WF dd m) (hp : PB m 1 0) (h : fX0_sheets_88 d a1 a2 v3 v5 s0 s1 = some x) (K : (Sum.elim (fX0_sheets_51P w l G (QM w G WF (some (mI r)) d m 0 0) m d a1 a2 v3) (fun q => q = r)) x) : V w l WF G (QM w G WF (some (mI r)) d m 0 0) d m 0 0 88 [mA 1, mU, mI a2, mI v3, mU, mI v5] [mI s1, mI s0] := by
  unfold fX0_sheets_88 at h
  refine v_iadd F dX0_sheets_88 ?_
  obtain ⟨x11, ex11, h⟩ := lv_some h
  refine v_nI ex11 ?_
  refine v_istore F dX0_sheets_89 (Nat.le_of_ble_eq_true rfl) (L' := [mA 1, mU, mI a2, mI v3, mI x11, mI v5]) rfl ?_
  obtain ⟨x12, ex12, h⟩ := lv_some h
  refine v_iincN F dX0_sheets_91 (Nat.le_of_ble_eq_true rfl) rfl ex12 (L' := [mA 1, mU, mI a2, mI v3, mI x11, mI x12]) rfl ?_
  refine v_goto F dX0_sheets_94 rfl ?_
  cases h
  exact K
theorem fX0_sheets_51f_ok {w : Wd} {l : Launch} {G : Cx} {d m dd : Dt} {a1 a2 v3 : Int} {r : Int} {s : Int × Int} {x : ((Int × Int) ⊕ Int)} (F : Fx w G cX0_sheets RX0 6 (some .int) { frames := 1, cells := 0, slots := 0, locals := 24 }) (hX : WF dd m) (hp : PB m 1 0) (h : fX0_sheets_51f d a1 a2 v3 s = some x) (K : (Sum.elim (fX0_sheets_51P w l G (QM w G WF (some (mI r)) d m 0 0) m d a1 a2 v3) (fun q => q = r)) x) : V w l WF G (QM w G WF (some (mI r)) d m 0 0) d m 0 0 51 [mA 1, mU, mI a2, mI v3, mI (s.1), mI (s.2)] [] := by
  obtain ⟨v4, v5⟩ := s
  unfold fX0_sheets_51f at h
  dsimp only at h
  refine v_iload F dX0_sheets_51 rfl ?_
  refine v_aload_n F dX0_sheets_53 rfl rfl ?_
  refine gf_X0_268 F dX0_sheets_54 hp ?_
  refine v_icmp_ge F dX0_sheets_57 rfl (fun hq6 => ?_) (fun hq6 => ?_)
  · rw [if_pos hq6] at h
    obtain ⟨z, hu, ez⟩ := up_some h
    clear h
    subst ez
    have h := hu
    clear hu
    refine v_iload_n F dX0_sheets_97 rfl rfl ?_
    refine v_if_ne F dX0_sheets_98 rfl (fun hq7 => ?_) (fun hq7 => ?_)
    · rw [if_neg hq7] at h
      refine v_iload_n F dX0_sheets_105 rfl rfl ?_
      refine v_iconst F dX0_sheets_106 ⟨by decide, by decide⟩ ?_
      refine v_icmp_ne F dX0_sheets_107 rfl (fun hq8 => ?_) (fun hq8 => ?_)
      · rw [if_neg hq8] at h
        refine v_bipush F dX0_sheets_115 rfl ⟨by decide, by decide⟩ ?_
        cases h
        cases (show _ = r from K)
        exact v_iret F dX0_sheets_117
      · rw [if_pos hq8] at h
        refine v_iload F dX0_sheets_110 rfl ?_
        refine v_goto F dX0_sheets_112 rfl ?_
        cases h
        cases (show _ = r from K)
        exact v_iret F dX0_sheets_117
    · rw [if_pos hq7] at h
      refine v_iload_n F dX0_sheets_101 rfl rfl ?_
      refine v_goto F dX0_sheets_102 rfl ?_
      cases h
      cases (show _ = r from K)
      exact v_iret F dX0_sheets_117
  · rw [if_neg hq6] at h
    refine v_iload F dX0_sheets_60 rfl ?_
    refine v_aload_n F dX0_sheets_62 rfl rfl ?_
    refine gf_X0_82 F dX0_sheets_63 hp (v := 62) rfl ?_
    refine v_iload F dX0_sheets_66 rfl ?_
    obtain ⟨hi9, h⟩ := ck_some h
    refine v_zald F dX0_sheets_68 (ar_X0_20 hX hp) hi9 ?_
    refine v_if_eq F dX0_sheets_69 rfl (fun hq10 => ?_) (fun hq10 => ?_)
    · rw [if_pos hq10] at h
      refine v_iconst F dX0_sheets_87 ⟨by decide, by decide⟩ ?_
      refine v_fgt (L' := [mA 1, mU, mI a2, mI v3, mU, mI v5]) ⟨Or.inl rfl, Or.inl rfl, Or.inl rfl, Or.inl rfl, Or.inr rfl, Or.inl rfl, trivial⟩ ?_
      exact fX0_sheets_88_ok F hX hp h K
    · rw [if_neg hq10] at h
      refine v_aload_n F dX0_sheets_72 rfl rfl ?_
      refine gf_X0_79 F dX0_sheets_73 hp (v := 61) rfl ?_
      refine v_iload F dX0_sheets_76 rfl ?_
      refine v_iald F dX0_sheets_78 (ar_X0_19 hX hp) hi9 ?_
      refine v_iload_n F dX0_sheets_79 rfl rfl ?_
      refine v_icmp_ne F dX0_sheets_80 rfl (fun hq13 => ?_) (fun hq13 => ?_)
      · rw [if_neg hq13] at h
        refine v_iconst F dX0_sheets_87 ⟨by decide, by decide⟩ ?_
        refine v_fgt (L' := [mA 1, mU, mI a2, mI v3, mU, mI v5]) ⟨Or.inl rfl, Or.inl rfl, Or.inl rfl, Or.inl rfl, Or.inr rfl, Or.inl rfl, trivial⟩ ?_
        exact fX0_sheets_88_ok F hX hp h K
      · rw [if_pos hq13] at h
        refine v_iconst F dX0_sheets_83 ⟨by decide, by decide⟩ ?_
        refine v_goto F dX0_sheets_84 rfl ?_
        refine v_fgt (L' := [mA 1, mU, mI a2, mI v3, mU, mI v5]) ⟨Or.inl rfl, Or.inl rfl, Or.inl rfl, Or.inl rfl, Or.inr rfl, Or.inl rfl, trivial⟩ ?_
        exact fX0_sheets_88_ok F hX hp h K
theorem fX0_sheets_51_ok {w : Wd} {l : Launch} {G : Cx} {d m dd : Dt} {a1 a2 v3 v4 v5 : Int} {r : Int} {x : Int} (F : Fx w G cX0_sheets RX0 6 (some .int) { frames := 1, cells := 0, slots := 0, locals := 24 }) (hX : WF dd m) (hp : PB m 1 0) (h : fX0_sheets_51 d a1 a2 v3 v4 v5 = some x) (K : (fun q => q = r) x) : V w l WF G (QM w G WF (some (mI r)) d m 0 0) d m 0 0 51 [mA 1, mU, mI a2, mI v3, mI v4, mI v5] [] := by
  unfold fX0_sheets_51 at h
  exact loop_ok (P := fX0_sheets_51P w l G (QM w G WF (some (mI r)) d m 0 0) m d a1 a2 v3) (fun s x hx h1 h2 => fX0_sheets_51f_ok F hX hp hx (by
    cases x with
    | inl s' => exact h1 s' rfl
    | inr z => cases h2 z rfl; exact K)) h
theorem fX0_sheets_39_ok {w : Wd} {l : Launch} {G : Cx} {d m dd : Dt} {a1 a2 v3 : Int} {r : Int} {x : Int} (F : Fx w G cX0_sheets RX0 6 (some .int) { frames := 1, cells := 0, slots := 0, locals := 24 }) (hX : WF dd m) (hp : PB m 1 0) (h : fX0_sheets_39 d a1 a2 v3 = some x) (K : (fun q => q = r) x) : V w l WF G (QM w G WF (some (mI r)) d m 0 0) d m 0 0 39 [mA 1, mU, mI a2, mI v3, mU, mU] [] := by
  unfold fX0_sheets_39 at h
  refine v_iload_n F dX0_sheets_39 rfl rfl ?_
  refine v_if_ne F dX0_sheets_40 rfl (fun hq5 => ?_) (fun hq5 => ?_)
  · rw [if_neg hq5] at h
    refine v_iconst F dX0_sheets_45 ⟨by decide, by decide⟩ ?_
    refine v_istore F dX0_sheets_46 (Nat.le_of_ble_eq_true rfl) (L' := [mA 1, mU, mI a2, mI v3, mI 0, mU]) rfl ?_
    refine v_iconst F dX0_sheets_48 ⟨by decide, by decide⟩ ?_
    refine v_istore F dX0_sheets_49 (Nat.le_of_ble_eq_true rfl) (L' := [mA 1, mU, mI a2, mI v3, mI 0, mI 0]) rfl ?_
    exact fX0_sheets_51_ok F hX hp h K
  · rw [if_pos hq5] at h
    refine v_iconst F dX0_sheets_43 ⟨by decide, by decide⟩ ?_
    cases h
    cases (show _ = r from K)
    exact v_iret F dX0_sheets_44
theorem fX0_sheets_17f_ok {w : Wd} {l : Launch} {G : Cx} {d m dd : Dt} {a1 a2 : Int} {r : Int} {s : Int × Int} {x : ((Int × Int) ⊕ Int)} (F : Fx w G cX0_sheets RX0 6 (some .int) { frames := 1, cells := 0, slots := 0, locals := 24 }) (hX : WF dd m) (hp : PB m 1 0) (h : fX0_sheets_17f d a1 a2 s = some x) (K : (Sum.elim (fX0_sheets_17P w l G (QM w G WF (some (mI r)) d m 0 0) m d a1 a2) (fun q => q = r)) x) : V w l WF G (QM w G WF (some (mI r)) d m 0 0) d m 0 0 17 [mA 1, mI a1, mI a2, mI (s.1), mI (s.2), mU] [] := by
  obtain ⟨v3, v4⟩ := s
  unfold fX0_sheets_17f at h
  dsimp only at h
  refine v_iload F dX0_sheets_17 rfl ?_
  refine v_iload_n F dX0_sheets_19 rfl rfl ?_
  refine v_icmp_ge F dX0_sheets_20 rfl (fun hq4 => ?_) (fun hq4 => ?_)
  · rw [if_pos hq4] at h
    obtain ⟨z, hu, ez⟩ := up_some h
    clear h
    subst ez
    have h := hu
    clear hu
    refine v_fgt (L' := [mA 1, mU, mI a2, mI v3, mU, mU]) ⟨Or.inl rfl, Or.inr rfl, Or.inl rfl, Or.inl rfl, Or.inr rfl, Or.inl rfl, trivial⟩ ?_
    exact fX0_sheets_39_ok F hX hp h K
  · rw [if_neg hq4] at h
    refine v_iload_n F dX0_sheets_23 rfl rfl ?_
    refine v_if_eq F dX0_sheets_24 rfl (fun hq14 => ?_) (fun hq14 => ?_)
    · rw [if_pos hq14] at h
      obtain ⟨z, hu, ez⟩ := up_some h
      clear h
      subst ez
      have h := hu
      clear hu
      refine v_fgt (L' := [mA 1, mU, mI a2, mI v3, mU, mU]) ⟨Or.inl rfl, Or.inr rfl, Or.inl rfl, Or.inl rfl, Or.inr rfl, Or.inl rfl, trivial⟩ ?_
      exact fX0_sheets_39_ok F hX hp h K
    · rw [if_neg hq14] at h
      refine v_aload_n F dX0_sheets_27 rfl rfl ?_
      refine v_iload_n F dX0_sheets_28 rfl rfl ?_
      obtain ⟨x15, hc16, h⟩ := b1_some h
      refine v_callVv (c := 0) F dX0_sheets_29 cv_X0_403 rfl (PB.ob hp hX (Nat.le_of_ble_eq_true rfl)) (Nat.le_of_ble_eq_true rfl) rfl (vm_X0_nextSheet hp hc16) rfl (rOk.of rfl) ?_
      refine v_istore_n F dX0_sheets_32 rfl (Nat.le_of_ble_eq_true rfl) (L' := [mA 1, mI a1, mI a2, mI x15, mI v4, mU]) rfl ?_
      obtain ⟨x17, ex17, h⟩ := lv_some h
      refine v_iincN F dX0_sheets_33 (Nat.le_of_ble_eq_true rfl) rfl ex17 (L' := [mA 1, mI a1, mI a2, mI x15, mI x17, mU]) rfl ?_
      refine v_goto F dX0_sheets_36 rfl ?_
      cases h
      exact K
theorem fX0_sheets_17_ok {w : Wd} {l : Launch} {G : Cx} {d m dd : Dt} {a1 a2 v3 v4 : Int} {r : Int} {x : Int} (F : Fx w G cX0_sheets RX0 6 (some .int) { frames := 1, cells := 0, slots := 0, locals := 24 }) (hX : WF dd m) (hp : PB m 1 0) (h : fX0_sheets_17 d a1 a2 v3 v4 = some x) (K : (fun q => q = r) x) : V w l WF G (QM w G WF (some (mI r)) d m 0 0) d m 0 0 17 [mA 1, mI a1, mI a2, mI v3, mI v4, mU] [] := by
  unfold fX0_sheets_17 at h
  exact loop_ok (P := fX0_sheets_17P w l G (QM w G WF (some (mI r)) d m 0 0) m d a1 a2) (fun s x hx h1 h2 => fX0_sheets_17f_ok F hX hp hx (by
    cases x with
    | inl s' => exact h1 s' rfl
    | inr z => cases h2 z rfl; exact K)) h
theorem vm_X0_sheets {w : Wd} {l : Launch} {d m : Dt} {a1 a2 : Int} {r : Int} (hp : PB m 1 0) (h : fX0_sheets d a1 a2 = some r) : VM w l WF yX0_sheets cX0_sheets 6 (some .int) 1 24 0 0 d m [mA 1, mI a1, mI a2] (some (mI r)) d m := by
  obtain ⟨x, h, K⟩ : ∃ x, fX0_sheets d a1 a2 = some x ∧ x = r := ⟨_, h, rfl⟩
  refine VM.of (L := [mA 1, mI a1, mI a2, mU, mU, mU]) (by decide +kernel) rfl (Nat.le_of_ble_eq_true rfl) fun G F _ => v_fact fun _ hX _ _ => ?_
  unfold fX0_sheets at h
  refine v_iload_n F dX0_sheets_0 rfl rfl ?_
  refine v_if_ge F dX0_sheets_1 rfl (fun hq1 => ?_) (fun hq1 => ?_)
  · rw [if_pos hq1] at h
    refine v_aload_n F dX0_sheets_8 rfl rfl ?_
    refine v_iconst F dX0_sheets_9 ⟨by decide, by decide⟩ ?_
    obtain ⟨x2, hc3, h⟩ := b1_some h
    refine v_callVv (c := 0) F dX0_sheets_10 cv_X0_403 rfl (PB.ob hp hX (Nat.le_of_ble_eq_true rfl)) (Nat.le_of_ble_eq_true rfl) rfl (vm_X0_nextSheet hp hc3) rfl (rOk.of rfl) ?_
    refine v_istore_n F dX0_sheets_13 rfl (Nat.le_of_ble_eq_true rfl) (L' := [mA 1, mI a1, mI a2, mI x2, mU, mU]) rfl ?_
    refine v_iconst F dX0_sheets_14 ⟨by decide, by decide⟩ ?_
    refine v_istore F dX0_sheets_15 (Nat.le_of_ble_eq_true rfl) (L' := [mA 1, mI a1, mI a2, mI x2, mI 0, mU]) rfl ?_
    exact fX0_sheets_17_ok F hX hp h K
  · rw [if_neg hq1] at h
    refine v_iconst F dX0_sheets_4 ⟨by decide, by decide⟩ ?_
    refine v_goto F dX0_sheets_5 rfl ?_
    refine v_istore_n F dX0_sheets_13 rfl (Nat.le_of_ble_eq_true rfl) (L' := [mA 1, mI a1, mI a2, mI 0, mU, mU]) rfl ?_
    refine v_iconst F dX0_sheets_14 ⟨by decide, by decide⟩ ?_
    refine v_istore F dX0_sheets_15 (Nat.le_of_ble_eq_true rfl) (L' := [mA 1, mI a1, mI a2, mI 0, mI 0, mU]) rfl ?_
    exact fX0_sheets_17_ok F hX hp h K
def fX11_sheets_5P (w : Wd) (l : Launch) (G : Cx) (Q : State → Prop) (m : Dt) (d : Dt) (a1 a2 : Int) (s : Int × Int) : Prop := V w l WF G Q d m 0 0 5 [mA 1545, mI a1, mI a2, mI (s.1), mI (s.2), mU, mU] []
def fX11_sheets_18P (w : Wd) (l : Launch) (G : Cx) (Q : State → Prop) (m : Dt) (d : Dt) (a1 a2 v3 v4 : Int) (s : Int × Int) : Prop := V w l WF G Q d m 0 0 18 [mA 1545, mI a1, mI a2, mI v3, mI v4, mI (s.1), mI (s.2)] []
theorem fX11_sheets_108_ok {w : Wd} {l : Launch} {G : Cx} {d m dd : Dt} {a1 a2 v4 s0 s1 : Int} {r : Int} {x : ((Int × Int) ⊕ Int)} (F : Fx w G cX11_sheets RX11 7 (some .int) { frames := 0, cells := 0, slots := 0, locals := 0 }) (hX : WF dd m) (hp : PB m 1545 11) (h : fX11_sheets_108 d a1 a2 v4 s0 s1 = some x) (K : (Sum.elim (fX11_sheets_5P w l G (QM w G WF (some (mI r)) d m 0 0) m d a1 a2) (fun q => q = r)) x) : V w l WF G (QM w G WF (some (mI r)) d m 0 0) d m 0 0 108 [mA 1545, mI a1, mI a2, mU, mI v4, mU, mU] [mI s1, mI s0] := by
  unfold fX11_sheets_108 at h
  refine v_iadd F dX11_sheets_108 ?_
  obtain ⟨x5, ex5, h⟩ := lv_some h
  refine v_nI ex5 ?_
  refine v_istore_n F dX11_sheets_109 rfl (Nat.le_of_ble_eq_true rfl) (L' := [mA 1545, mI a1, mI a2, mI x5, mI v4, mU, mU]) rfl ?_
  obtain ⟨x6, ex6, h⟩ := lv_some h
  refine v_iincN F dX11_sheets_110 (Nat.le_of_ble_eq_true rfl) rfl ex6 (L' := [mA 1545, mI a1, mI a2, mI x5, mI x6, mU, mU]) rfl ?_
  refine v_goto F dX11_sheets_113 rfl ?_
  cases h
  exact K
theorem fX11_sheets_97_ok {w : Wd} {l : Launch} {G : Cx} {d m dd : Dt} {a1 a2 v3 v4 v5 : Int} {r : Int} {x : ((Int × Int) ⊕ Int)} (F : Fx w G cX11_sheets RX11 7 (some .int) { frames := 0, cells := 0, slots := 0, locals := 0 }) (hX : WF dd m) (hp : PB m 1545 11) (h : fX11_sheets_97 d a1 a2 v3 v4 v5 = some x) (K : (Sum.elim (fX11_sheets_5P w l G (QM w G WF (some (mI r)) d m 0 0) m d a1 a2) (fun q => q = r)) x) : V w l WF G (QM w G WF (some (mI r)) d m 0 0) d m 0 0 97 [mA 1545, mI a1, mI a2, mI v3, mI v4, mI v5, mU] [] := by
  unfold fX11_sheets_97 at h
  refine v_iload_n F dX11_sheets_97 rfl rfl ?_
  refine v_iload F dX11_sheets_98 rfl ?_
  refine v_if_le F dX11_sheets_100 rfl (fun hq4 => ?_) (fun hq4 => ?_)
  · rw [if_pos hq4] at h
    refine v_iconst F dX11_sheets_107 ⟨by decide, by decide⟩ ?_
    refine v_fgt (L' := [mA 1545, mI a1, mI a2, mU, mI v4, mU, mU]) ⟨Or.inl rfl, Or.inl rfl, Or.inl rfl, Or.inr rfl, Or.inl rfl, Or.inr rfl, Or.inl rfl, trivial⟩ ?_
    exact fX11_sheets_108_ok F hX hp h K
  · rw [if_neg hq4] at h
    refine v_iconst F dX11_sheets_103 ⟨by decide, by decide⟩ ?_
    refine v_goto F dX11_sheets_104 rfl ?_
    refine v_fgt (L' := [mA 1545, mI a1, mI a2, mU, mI v4, mU, mU]) ⟨Or.inl rfl, Or.inl rfl, Or.inl rfl, Or.inr rfl, Or.inl rfl, Or.inr rfl, Or.inl rfl, trivial⟩ ?_
    exact fX11_sheets_108_ok F hX hp h K
theorem fX11_sheets_56_ok {w : Wd} {l : Launch} {G : Cx} {d m dd : Dt} {a1 a2 v3 v4 v6 s0 s1 : Int} {r : Int} {x : ((Int × Int) ⊕ ((Int × Int) ⊕ Int))} (F : Fx w G cX11_sheets RX11 7 (some .int) { frames := 0, cells := 0, slots := 0, locals := 0 }) (hX : WF dd m) (hp : PB m 1545 11) (h : fX11_sheets_56 d a1 a2 v3 v4 v6 s0 s1 = some x) (K : (Sum.elim (fX11_sheets_18P w l G (QM w G WF (some (mI r)) d m 0 0) m d a1 a2 v3 v4) (Sum.elim (fX11_sheets_5P w l G (QM w G WF (some (mI r)) d m 0 0) m d a1 a2) (fun q => q = r))) x) : V w l WF G (QM w G WF (some (mI r)) d m 0 0) d m 0 0 56 [mA 1545, mI a1, mI a2, mI v3, mI v4, mU, mI v6] [mI s1, mI s0] := by
  unfold fX11_sheets_56 at h
  refine v_iadd F dX11_sheets_56 ?_
  obtain ⟨x12, ex12, h⟩ := lv_some h
  refine v_nI ex12 ?_
  refine v_istore F dX11_sheets_57 (Nat.le_of_ble_eq_true rfl) (L' := [mA 1545, mI a1, mI a2, mI v3, mI v4, mI x12, mI v6]) rfl ?_
  obtain ⟨x13, ex13, h⟩ := lv_some h
  refine v_iincN F dX11_sheets_59 (Nat.le_of_ble_eq_true rfl) rfl ex13 (L' := [mA 1545, mI a1, mI a2, mI v3, mI v4, mI x12, mI x13]) rfl ?_
  refine v_goto F dX11_sheets_62 rfl ?_
  cases h
  exact K
theorem fX11_sheets_18f_ok {w : Wd} {l : Launch} {G : Cx} {d m dd : Dt} {a1 a2 v3 v4 : Int} {r : Int} {s : Int × Int} {x : ((Int × Int) ⊕ ((Int × Int) ⊕ Int))} (F : Fx w G cX11_sheets RX11 7 (some .int) { frames := 0, cells := 0, slots := 0, locals := 0 }) (hX : WF dd m) (hp : PB m 1545 11) (h : fX11_sheets_18f d a1 a2 v3 v4 s = some x) (K : (Sum.elim (fX11_sheets_18P w l G (QM w G WF (some (mI r)) d m 0 0) m d a1 a2 v3 v4) (Sum.elim (fX11_sheets_5P w l G (QM w G WF (some (mI r)) d m 0 0) m d a1 a2) (fun q => q = r))) x) : V w l WF G (QM w G WF (some (mI r)) d m 0 0) d m 0 0 18 [mA 1545, mI a1, mI a2, mI v3, mI v4, mI (s.1), mI (s.2)] [] := by
  obtain ⟨v5, v6⟩ := s
  unfold fX11_sheets_18f at h
  dsimp only at h
  refine v_iload F dX11_sheets_18 rfl ?_
  refine v_aload_n F dX11_sheets_20 rfl rfl ?_
  refine gf_X11_534 F dX11_sheets_21 hp ?_
  refine v_icmp_ge F dX11_sheets_24 rfl (fun hq2 => ?_) (fun hq2 => ?_)
  · rw [if_pos hq2] at h
    obtain ⟨z, hu, ez⟩ := up_some h
    clear h
    subst ez
    have h := hu
    clear hu
    refine v_iload F dX11_sheets_65 rfl ?_
    refine v_if_le F dX11_sheets_67 rfl (fun hq3 => ?_) (fun hq3 => ?_)
    · rw [if_pos hq3] at h
      refine v_fgt (L' := [mA 1545, mI a1, mI a2, mI v3, mI v4, mI v5, mU]) ⟨Or.inl rfl, Or.inl rfl, Or.inl rfl, Or.inl rfl, Or.inl rfl, Or.inl rfl, Or.inr rfl, trivial⟩ ?_
      exact fX11_sheets_97_ok F hX hp h K
    · rw [if_neg hq3] at h
      refine v_iload_n F dX11_sheets_70 rfl rfl ?_
      refine v_iload_n F dX11_sheets_71 rfl rfl ?_
      refine v_icmp_ne F dX11_sheets_72 rfl (fun hq7 => ?_) (fun hq7 => ?_)
      · rw [if_neg hq7] at h
        refine v_fgt (L' := [mA 1545, mI a1, mI a2, mI v3, mI v4, mI v5, mU]) ⟨Or.inl rfl, Or.inl rfl, Or.inl rfl, Or.inl rfl, Or.inl rfl, Or.inl rfl, Or.inr rfl, trivial⟩ ?_
        exact fX11_sheets_97_ok F hX hp h K
      · rw [if_pos hq7] at h
        obtain ⟨z, hu, ez⟩ := up_some h
        clear h
        subst ez
        have h := hu
        clear hu
        refine v_iload_n F dX11_sheets_75 rfl rfl ?_
        refine v_if_ne F dX11_sheets_76 rfl (fun hq8 => ?_) (fun hq8 => ?_)
        · rw [if_neg hq8] at h
          refine v_iload_n F dX11_sheets_84 rfl rfl ?_
          refine v_iconst F dX11_sheets_85 ⟨by decide, by decide⟩ ?_
          refine v_icmp_ne F dX11_sheets_86 rfl (fun hq9 => ?_) (fun hq9 => ?_)
          · rw [if_neg hq9] at h
            refine v_bipush F dX11_sheets_94 rfl ⟨by decide, by decide⟩ ?_
            cases h
            cases (show _ = r from K)
            exact v_iret F dX11_sheets_96
          · rw [if_pos hq9] at h
            refine v_iload F dX11_sheets_89 rfl ?_
            refine v_goto F dX11_sheets_91 rfl ?_
            cases h
            cases (show _ = r from K)
            exact v_iret F dX11_sheets_96
        · rw [if_pos hq8] at h
          refine v_iload F dX11_sheets_79 rfl ?_
          refine v_goto F dX11_sheets_81 rfl ?_
          cases h
          cases (show _ = r from K)
          exact v_iret F dX11_sheets_96
  · rw [if_neg hq2] at h
    refine v_iload F dX11_sheets_27 rfl ?_
    refine v_aload_n F dX11_sheets_29 rfl rfl ?_
    refine gf_X11_605 F dX11_sheets_30 hp (v := 1597) rfl ?_
    refine v_iload F dX11_sheets_33 rfl ?_
    obtain ⟨hi10, h⟩ := ck_some h
    refine v_zald F dX11_sheets_35 (ar_X11_74 hX hp) hi10 ?_
    refine v_if_eq F dX11_sheets_36 rfl (fun hq11 => ?_) (fun hq11 => ?_)
    · rw [if_pos hq11] at h
      refine v_iconst F dX11_sheets_55 ⟨by decide, by decide⟩ ?_
      refine v_fgt (L' := [mA 1545, mI a1, mI a2, mI v3, mI v4, mU, mI v6]) ⟨Or.inl rfl, Or.inl rfl, Or.inl rfl, Or.inl rfl, Or.inl rfl, Or.inr rfl, Or.inl rfl, trivial⟩ ?_
      exact fX11_sheets_56_ok F hX hp h K
    · rw [if_neg hq11] at h
      refine v_aload_n F dX11_sheets_39 rfl rfl ?_
      refine gf_X11_602 F dX11_sheets_40 hp (v := 1596) rfl ?_
      refine v_iload F dX11_sheets_43 rfl ?_
      refine v_iald F dX11_sheets_45 (ar_X11_73 hX hp) hi10 ?_
      refine v_iload F dX11_sheets_46 rfl ?_
      refine v_icmp_ne F dX11_sheets_48 rfl (fun hq14 => ?_) (fun hq14 => ?_)
      · rw [if_neg hq14] at h
        refine v_iconst F dX11_sheets_55 ⟨by decide, by decide⟩ ?_
        refine v_fgt (L' := [mA 1545, mI a1, mI a2, mI v3, mI v4, mU, mI v6]) ⟨Or.inl rfl, Or.inl rfl, Or.inl rfl, Or.inl rfl, Or.inl rfl, Or.inr rfl, Or.inl rfl, trivial⟩ ?_
        exact fX11_sheets_56_ok F hX hp h K
      · rw [if_pos hq14] at h
        refine v_iconst F dX11_sheets_51 ⟨by decide, by decide⟩ ?_
        refine v_goto F dX11_sheets_52 rfl ?_
        refine v_fgt (L' := [mA 1545, mI a1, mI a2, mI v3, mI v4, mU, mI v6]) ⟨Or.inl rfl, Or.inl rfl, Or.inl rfl, Or.inl rfl, Or.inl rfl, Or.inr rfl, Or.inl rfl, trivial⟩ ?_
        exact fX11_sheets_56_ok F hX hp h K
theorem fX11_sheets_18_ok {w : Wd} {l : Launch} {G : Cx} {d m dd : Dt} {a1 a2 v3 v4 v5 v6 : Int} {r : Int} {x : ((Int × Int) ⊕ Int)} (F : Fx w G cX11_sheets RX11 7 (some .int) { frames := 0, cells := 0, slots := 0, locals := 0 }) (hX : WF dd m) (hp : PB m 1545 11) (h : fX11_sheets_18 d a1 a2 v3 v4 v5 v6 = some x) (K : (Sum.elim (fX11_sheets_5P w l G (QM w G WF (some (mI r)) d m 0 0) m d a1 a2) (fun q => q = r)) x) : V w l WF G (QM w G WF (some (mI r)) d m 0 0) d m 0 0 18 [mA 1545, mI a1, mI a2, mI v3, mI v4, mI v5, mI v6] [] := by
  unfold fX11_sheets_18 at h
  exact loop_ok (P := fX11_sheets_18P w l G (QM w G WF (some (mI r)) d m 0 0) m d a1 a2 v3 v4) (fun s x hx h1 h2 => fX11_sheets_18f_ok F hX hp hx (by
    cases x with
    | inl s' => exact h1 s' rfl
    | inr z => cases h2 z rfl; exact K)) h
theorem fX11_sheets_5f_ok {w : Wd} {l : Launch} {G : Cx} {d m dd : Dt} {a1 a2 : Int} {r : Int} {s : Int × Int} {x : ((Int × Int) ⊕ Int)} (F : Fx w G cX11_sheets RX11 7 (some .int) { frames := 0, cells := 0, slots := 0, locals := 0 }) (hX : WF dd m) (hp : PB m 1545 11) (h : fX11_sheets_5f d a1 a2 s = some x) (K : (Sum.elim (fX11_sheets_5P w l G (QM w G WF (some (mI r)) d m 0 0) m d a1 a2) (fun q => q = r)) x) : V w l WF G (QM w G WF (some (mI r)) d m 0 0) d m 0 0 5 [mA 1545, mI a1, mI a2, mI (s.1), mI (s.2), mU, mU] [] := by
  obtain ⟨v3, v4⟩ := s
  unfold fX11_sheets_5f at h
  dsimp only at h
  refine v_iload F dX11_sheets_5 rfl ?_
  refine v_bipush F dX11_sheets_7 rfl ⟨by decide, by decide⟩ ?_
  refine v_icmp_ge F dX11_sheets_9 rfl (fun hq1 => ?_) (fun hq1 => ?_)
  · rw [if_pos hq1] at h
    obtain ⟨z, hu, ez⟩ := up_some h
    clear h
    subst ez
    have h := hu
    clear hu
    refine v_iconst F dX11_sheets_116 ⟨by decide, by decide⟩ ?_
    cases h
    cases (show _ = r from K)
    exact v_iret F dX11_sheets_117
  · rw [if_neg hq1] at h
    refine v_iconst F dX11_sheets_12 ⟨by decide, by decide⟩ ?_
    refine v_istore F dX11_sheets_13 (Nat.le_of_ble_eq_true rfl) (L' := [mA 1545, mI a1, mI a2, mI v3, mI v4, mI 0, mU]) rfl ?_
    refine v_iconst F dX11_sheets_15 ⟨by decide, by decide⟩ ?_
    refine v_istore F dX11_sheets_16 (Nat.le_of_ble_eq_true rfl) (L' := [mA 1545, mI a1, mI a2, mI v3, mI v4, mI 0, mI 0]) rfl ?_
    exact fX11_sheets_18_ok F hX hp h K
theorem fX11_sheets_5_ok {w : Wd} {l : Launch} {G : Cx} {d m dd : Dt} {a1 a2 v3 v4 : Int} {r : Int} {x : Int} (F : Fx w G cX11_sheets RX11 7 (some .int) { frames := 0, cells := 0, slots := 0, locals := 0 }) (hX : WF dd m) (hp : PB m 1545 11) (h : fX11_sheets_5 d a1 a2 v3 v4 = some x) (K : (fun q => q = r) x) : V w l WF G (QM w G WF (some (mI r)) d m 0 0) d m 0 0 5 [mA 1545, mI a1, mI a2, mI v3, mI v4, mU, mU] [] := by
  unfold fX11_sheets_5 at h
  exact loop_ok (P := fX11_sheets_5P w l G (QM w G WF (some (mI r)) d m 0 0) m d a1 a2) (fun s x hx h1 h2 => fX11_sheets_5f_ok F hX hp hx (by
    cases x with
    | inl s' => exact h1 s' rfl
    | inr z => cases h2 z rfl; exact K)) h
theorem vm_X11_sheets {w : Wd} {l : Launch} {d m : Dt} {a1 a2 : Int} {r : Int} (hp : PB m 1545 11) (h : fX11_sheets d a1 a2 = some r) : VM w l WF yX11_sheets cX11_sheets 7 (some .int) 0 0 0 0 d m [mA 1545, mI a1, mI a2] (some (mI r)) d m := by
  obtain ⟨x, h, K⟩ : ∃ x, fX11_sheets d a1 a2 = some x ∧ x = r := ⟨_, h, rfl⟩
  refine VM.of (L := [mA 1545, mI a1, mI a2, mU, mU, mU, mU]) (by decide +kernel) rfl (Nat.le_of_ble_eq_true rfl) fun G F _ => v_fact fun _ hX _ _ => ?_
  unfold fX11_sheets at h
  refine v_iconst F dX11_sheets_0 ⟨by decide, by decide⟩ ?_
  refine v_istore_n F dX11_sheets_1 rfl (Nat.le_of_ble_eq_true rfl) (L' := [mA 1545, mI a1, mI a2, mI 0, mU, mU, mU]) rfl ?_
  refine v_iconst F dX11_sheets_2 ⟨by decide, by decide⟩ ?_
  refine v_istore F dX11_sheets_3 (Nat.le_of_ble_eq_true rfl) (L' := [mA 1545, mI a1, mI a2, mI 0, mI 1, mU, mU]) rfl ?_
  exact fX11_sheets_5_ok F hX hp h K
theorem vm_X0_isCandidate {w : Wd} {l : Launch} {d m : Dt} {a1 a2 : Int} {r : Int} (hp : PB m 1 0) (h : fX0_isCandidate d a1 a2 = some r) : VM w l WF yX0_isCandidate cX0_isCandidate 3 (some .boolean) 2 43 0 0 d m [mA 1, mI a1, mI a2] (some (mI r)) d m := by
  obtain ⟨x, h, K⟩ : ∃ x, fX0_isCandidate d a1 a2 = some x ∧ x = r := ⟨_, h, rfl⟩
  refine VM.of (L := [mA 1, mI a1, mI a2]) (by decide +kernel) rfl (Nat.le_of_ble_eq_true rfl) fun G F _ => v_fact fun _ hX _ _ => ?_
  unfold fX0_isCandidate at h
  refine v_aload_n F dX0_isCandidate_0 rfl rfl ?_
  refine v_iload_n F dX0_isCandidate_1 rfl rfl ?_
  obtain ⟨x1, hc2, h⟩ := b1_some h
  refine v_callVv (c := 0) F dX0_isCandidate_2 cv_X0_296 rfl (PB.ob hp hX (Nat.le_of_ble_eq_true rfl)) (Nat.le_of_ble_eq_true rfl) rfl (vm_X0_isContest hp hc2) rfl (rOk.of rfl) ?_
  refine v_if_eq F dX0_isCandidate_5 rfl (fun hq3 => ?_) (fun hq3 => ?_)
  · rw [if_pos hq3] at h
    refine v_iconst F dX0_isCandidate_31 ⟨by decide, by decide⟩ ?_
    cases h
    cases (show _ = r from K)
    exact v_zret F (Or.inl rfl) dX0_isCandidate_32
  · rw [if_neg hq3] at h
    refine v_iload_n F dX0_isCandidate_8 rfl rfl ?_
    refine v_iconst F dX0_isCandidate_9 ⟨by decide, by decide⟩ ?_
    refine v_aload_n F dX0_isCandidate_10 rfl rfl ?_
    refine gf_X0_62 F dX0_isCandidate_11 hp (v := 57) rfl ?_
    refine v_iload_n F dX0_isCandidate_14 rfl rfl ?_
    obtain ⟨hi4, h⟩ := ck_some h
    refine v_aaldF (c := 0) (k := 13) F dX0_isCandidate_15 hp (Nat.le_of_ble_eq_true rfl) (Nat.le_of_ble_eq_true rfl) (by decide) (by decide) rfl (ar_X0_13 hX hp) (Nat.le_of_ble_eq_true rfl) rfl rfl rfl rfl hi4 (v := (629 + 8 * a1)) (by show 1 + 628 + 8 * a1 = _; omega) ?_
    refine gf_X0_317 F dX0_isCandidate_16 (ae_X0_13 (i := a1) hX hp hi4 (v := (629 + 8 * a1)) (by omega)) ?_
    refine v_iconst F dX0_isCandidate_19 ⟨by decide, by decide⟩ ?_
    refine v_isub F dX0_isCandidate_20 ?_
    refine v_callSv F dX0_isCandidate_21 cs_X0_163 rfl (vm_X0_within) rfl (rOk.of rfl) ?_
    refine v_if_eq F dX0_isCandidate_24 rfl (fun hq5 => ?_) (fun hq5 => ?_)
    · rw [if_pos hq5] at h
      refine v_iconst F dX0_isCandidate_31 ⟨by decide, by decide⟩ ?_
      cases h
      cases (show _ = r from K)
      exact v_zret F (Or.inl rfl) dX0_isCandidate_32
    · rw [if_neg hq5] at h
      refine v_iconst F dX0_isCandidate_27 ⟨by decide, by decide⟩ ?_
      refine v_goto F dX0_isCandidate_28 rfl ?_
      cases h
      cases (show _ = r from K)
      exact v_zret F (Or.inr rfl) dX0_isCandidate_32
theorem vm_X0_candidate {w : Wd} {l : Launch} {d m : Dt} {a1 a2 a3 : Int} {r : Int} (hp : PB m 1 0) (h : fX0_candidate d a1 a2 a3 = some r) : VM w l WF yX0_candidate cX0_candidate 5 (some .int) 3 65 0 0 d m [mA 1, mI a1, mI a2, mI a3] (some (mI r)) d m := by
  obtain ⟨x, h, K⟩ : ∃ x, fX0_candidate d a1 a2 a3 = some x ∧ x = r := ⟨_, h, rfl⟩
  refine VM.of (L := [mA 1, mI a1, mI a2, mI a3, mU]) (by decide +kernel) rfl (Nat.le_of_ble_eq_true rfl) fun G F _ => v_fact fun _ hX _ _ => ?_
  unfold fX0_candidate at h
  refine v_aload_n F dX0_candidate_0 rfl rfl ?_
  refine v_iload_n F dX0_candidate_1 rfl rfl ?_
  refine v_iload_n F dX0_candidate_2 rfl rfl ?_
  obtain ⟨x1, hc2, h⟩ := b1_some h
  refine v_callVv (c := 0) F dX0_candidate_3 cv_X0_406 rfl (PB.ob hp hX (Nat.le_of_ble_eq_true rfl)) (Nat.le_of_ble_eq_true rfl) rfl (vm_X0_isCandidate hp hc2) rfl (rOk.of rfl) ?_
  refine v_if_ne F dX0_candidate_6 rfl (fun hq3 => ?_) (fun hq3 => ?_)
  · rw [if_neg hq3] at h
    refine v_aload_n F dX0_candidate_11 rfl rfl ?_
    refine gf_X0_62 F dX0_candidate_12 hp (v := 57) rfl ?_
    refine v_iload_n F dX0_candidate_15 rfl rfl ?_
    obtain ⟨hi4, h⟩ := ck_some h
    refine v_aaldF (c := 0) (k := 13) F dX0_candidate_16 hp (Nat.le_of_ble_eq_true rfl) (Nat.le_of_ble_eq_true rfl) (by decide) (by decide) rfl (ar_X0_13 hX hp) (Nat.le_of_ble_eq_true rfl) rfl rfl rfl rfl hi4 (v := (629 + 8 * a1)) (by show 1 + 628 + 8 * a1 = _; omega) ?_
    obtain ⟨x5, ex5, h⟩ := lv_some h
    refine v_nA ex5 ?_
    have x5p : PB m x5 9 := by rw [ex5]; exact (ae_X0_13 (i := a1) hX hp hi4 (v := (629 + 8 * a1)) (by omega))
    refine v_astore F dX0_candidate_17 (Nat.le_of_ble_eq_true rfl) (L' := [mA 1, mI a1, mI a2, mI a3, mA x5]) rfl ?_
    refine v_iload_n F dX0_candidate_19 rfl rfl ?_
    by_cases hq6 : a3 = 0
    · rw [if_pos hq6] at h
      refine v_tableIn F dX0_candidate_20 hq6 (by decide) (by decide) rfl rfl ?_
      refine v_aload F dX0_candidate_56 rfl ?_
      refine gf_X0_410 F dX0_candidate_58 x5p (v := (x5 + 2)) rfl ?_
      refine v_iload_n F dX0_candidate_61 rfl rfl ?_
      obtain ⟨hi7, h⟩ := ck_some h
      refine v_iald F dX0_candidate_62 (ar_X9_2 hX x5p) hi7 ?_
      cases h
      cases (show _ = r from K)
      exact v_iret F dX0_candidate_63
    · rw [if_neg hq6] at h
      by_cases hq8 : a3 = 1
      · rw [if_pos hq8] at h
        refine v_tableIn F dX0_candidate_20 hq8 (by decide) (by decide) rfl rfl ?_
        refine v_aload F dX0_candidate_64 rfl ?_
        refine gf_X0_412 F dX0_candidate_66 x5p (v := (x5 + 3)) rfl ?_
        refine v_iload_n F dX0_candidate_69 rfl rfl ?_
        obtain ⟨hi9, h⟩ := ck_some h
        refine v_iald F dX0_candidate_70 (ar_X9_3 hX x5p) hi9 ?_
        cases h
        cases (show _ = r from K)
        exact v_iret F dX0_candidate_71
      · rw [if_neg hq8] at h
        by_cases hq10 : a3 = 2
        · rw [if_pos hq10] at h
          refine v_tableIn F dX0_candidate_20 hq10 (by decide) (by decide) rfl rfl ?_
          refine v_aload F dX0_candidate_72 rfl ?_
          refine gf_X0_415 F dX0_candidate_74 x5p (v := (x5 + 7)) rfl ?_
          refine v_iload_n F dX0_candidate_77 rfl rfl ?_
          obtain ⟨hi11, h⟩ := ck_some h
          refine v_iald F dX0_candidate_78 (ar_X9_8 hX x5p) hi11 ?_
          cases h
          cases (show _ = r from K)
          exact v_iret F dX0_candidate_79
        · rw [if_neg hq10] at h
          by_cases hq12 : a3 = 3
          · rw [if_pos hq12] at h
            refine v_tableIn F dX0_candidate_20 hq12 (by decide) (by decide) rfl rfl ?_
            refine v_aload F dX0_candidate_80 rfl ?_
            refine gf_X0_418 F dX0_candidate_82 x5p (v := (x5 + 5)) rfl ?_
            refine v_iload_n F dX0_candidate_85 rfl rfl ?_
            obtain ⟨hi13, h⟩ := ck_some h
            refine v_zald F dX0_candidate_86 (ar_X9_5 hX x5p) hi13 ?_
            refine v_if_eq F dX0_candidate_87 rfl (fun hq14 => ?_) (fun hq14 => ?_)
            · rw [if_pos hq14] at h
              refine v_iconst F dX0_candidate_94 ⟨by decide, by decide⟩ ?_
              cases h
              cases (show _ = r from K)
              exact v_iret F dX0_candidate_95
            · rw [if_neg hq14] at h
              refine v_iconst F dX0_candidate_90 ⟨by decide, by decide⟩ ?_
              refine v_goto F dX0_candidate_91 rfl ?_
              cases h
              cases (show _ = r from K)
              exact v_iret F dX0_candidate_95
          · rw [if_neg hq12] at h
            by_cases hq15 : a3 = 4
            · rw [if_pos hq15] at h
              refine v_tableIn F dX0_candidate_20 hq15 (by decide) (by decide) rfl rfl ?_
              refine v_aload F dX0_candidate_96 rfl ?_
              refine gf_X0_421 F dX0_candidate_98 x5p (v := (x5 + 4)) rfl ?_
              refine v_iload_n F dX0_candidate_101 rfl rfl ?_
              obtain ⟨hi16, h⟩ := ck_some h
              refine v_iald F dX0_candidate_102 (ar_X9_4 hX x5p) hi16 ?_
              cases h
              cases (show _ = r from K)
              exact v_iret F dX0_candidate_103
            · rw [if_neg hq15] at h
              refine v_tableOut F dX0_candidate_20 (by omega) rfl ?_
              refine v_bipush F dX0_candidate_104 rfl ⟨by decide, by decide⟩ ?_
              cases h
              cases (show _ = r from K)
              exact v_iret F dX0_candidate_106
  · rw [if_pos hq3] at h
    refine v_iconst F dX0_candidate_9 ⟨by decide, by decide⟩ ?_
    cases h
    cases (show _ = r from K)
    exact v_iret F dX0_candidate_10
theorem vm_X11_isCandidate {w : Wd} {l : Launch} {d m : Dt} {a1 a2 : Int} {r : Int} (hp : PB m 1545 11) (h : fX11_isCandidate d a1 a2 = some r) : VM w l WF yX11_isCandidate cX11_isCandidate 3 (some .boolean) 2 46 0 0 d m [mA 1545, mI a1, mI a2] (some (mI r)) d m := by
  obtain ⟨x, h, K⟩ : ∃ x, fX11_isCandidate d a1 a2 = some x ∧ x = r := ⟨_, h, rfl⟩
  refine VM.of (L := [mA 1545, mI a1, mI a2]) (by decide +kernel) rfl (Nat.le_of_ble_eq_true rfl) fun G F _ => v_fact fun _ hX _ _ => ?_
  unfold fX11_isCandidate at h
  refine v_aload_n F dX11_isCandidate_0 rfl rfl ?_
  refine v_iload_n F dX11_isCandidate_1 rfl rfl ?_
  refine v_callVv (c := 11) F dX11_isCandidate_2 cv_X11_480 rfl (PB.ob hp hX (Nat.le_of_ble_eq_true rfl)) (Nat.le_of_ble_eq_true rfl) rfl (vm_X11_isContest hp) rfl (rOk.of rfl) ?_
  refine v_if_eq F dX11_isCandidate_5 rfl (fun hq1 => ?_) (fun hq1 => ?_)
  · rw [if_pos hq1] at h
    refine v_iconst F dX11_isCandidate_30 ⟨by decide, by decide⟩ ?_
    cases h
    cases (show _ = r from K)
    exact v_zret F (Or.inl rfl) dX11_isCandidate_31
  · rw [if_neg hq1] at h
    refine v_iload_n F dX11_isCandidate_8 rfl rfl ?_
    refine v_i2l F dX11_isCandidate_9 ?_
    refine v_lconst0 F dX11_isCandidate_10 ?_
    refine v_aload_n F dX11_isCandidate_11 rfl rfl ?_
    refine gf_X11_488 F dX11_isCandidate_12 hp (v := 1589) rfl ?_
    refine v_iload_n F dX11_isCandidate_15 rfl rfl ?_
    obtain ⟨hi2, h⟩ := ck_some h
    refine v_iald F dX11_isCandidate_16 (ar_X11_65 hX hp) hi2 ?_
    refine v_iconst F dX11_isCandidate_17 ⟨by decide, by decide⟩ ?_
    refine v_isub F dX11_isCandidate_18 ?_
    refine v_i2l F dX11_isCandidate_19 ?_
    refine v_callSv F dX11_isCandidate_20 cs_X11_13 rfl (vm_X11_in) rfl (rOk.of rfl) ?_
    refine v_if_eq F dX11_isCandidate_23 rfl (fun hq3 => ?_) (fun hq3 => ?_)
    · rw [if_pos hq3] at h
      refine v_iconst F dX11_isCandidate_30 ⟨by decide, by decide⟩ ?_
      cases h
      cases (show _ = r from K)
      exact v_zret F (Or.inl rfl) dX11_isCandidate_31
    · rw [if_neg hq3] at h
      refine v_iconst F dX11_isCandidate_26 ⟨by decide, by decide⟩ ?_
      refine v_goto F dX11_isCandidate_27 rfl ?_
      cases h
      cases (show _ = r from K)
      exact v_zret F (Or.inr rfl) dX11_isCandidate_31
theorem vm_X11_candidate {w : Wd} {l : Launch} {d m : Dt} {a1 a2 a3 : Int} {r : Int} (hp : PB m 1545 11) (h : fX11_candidate d a1 a2 a3 = some r) : VM w l WF yX11_candidate cX11_candidate 5 (some .int) 3 68 0 0 d m [mA 1545, mI a1, mI a2, mI a3] (some (mI r)) d m := by
  obtain ⟨x, h, K⟩ : ∃ x, fX11_candidate d a1 a2 a3 = some x ∧ x = r := ⟨_, h, rfl⟩
  refine VM.of (L := [mA 1545, mI a1, mI a2, mI a3, mU]) (by decide +kernel) rfl (Nat.le_of_ble_eq_true rfl) fun G F _ => v_fact fun _ hX _ _ => ?_
  unfold fX11_candidate at h
  refine v_aload_n F dX11_candidate_0 rfl rfl ?_
  refine v_iload_n F dX11_candidate_1 rfl rfl ?_
  refine v_iload_n F dX11_candidate_2 rfl rfl ?_
  obtain ⟨x1, hc2, h⟩ := b1_some h
  refine v_callVv (c := 11) F dX11_candidate_3 cv_X11_638 rfl (PB.ob hp hX (Nat.le_of_ble_eq_true rfl)) (Nat.le_of_ble_eq_true rfl) rfl (vm_X11_isCandidate hp hc2) rfl (rOk.of rfl) ?_
  refine v_if_ne F dX11_candidate_6 rfl (fun hq3 => ?_) (fun hq3 => ?_)
  · rw [if_neg hq3] at h
    refine v_bipush F dX11_candidate_11 rfl ⟨by decide, by decide⟩ ?_
    refine v_iload_n F dX11_candidate_13 rfl rfl ?_
    refine v_imul F dX11_candidate_14 ?_
    refine v_iload_n F dX11_candidate_15 rfl rfl ?_
    refine v_iadd F dX11_candidate_16 ?_
    obtain ⟨x4, ex4, h⟩ := lv_some h
    refine v_nI ex4 ?_
    refine v_istore F dX11_candidate_17 (Nat.le_of_ble_eq_true rfl) (L' := [mA 1545, mI a1, mI a2, mI a3, mI x4]) rfl ?_
    refine v_iload_n F dX11_candidate_19 rfl rfl ?_
    by_cases hq5 : a3 = 0
    · rw [if_pos hq5] at h
      refine v_tableIn F dX11_candidate_20 hq5 (by decide) (by decide) rfl rfl ?_
      refine v_aload_n F dX11_candidate_56 rfl rfl ?_
      refine gf_X11_578 F dX11_candidate_57 hp (v := 1583) rfl ?_
      refine v_aload_n F dX11_candidate_60 rfl rfl ?_
      refine gf_X11_608 F dX11_candidate_61 hp (v := 1590) rfl ?_
      refine v_iload F dX11_candidate_64 rfl ?_
      obtain ⟨hi6, h⟩ := ck_some h
      refine v_iald F dX11_candidate_66 (ar_X11_66 hX hp) hi6 ?_
      obtain ⟨x7, ex7, h⟩ := lv_some h
      refine v_nI ex7 ?_
      obtain ⟨hi8, h⟩ := ck_some h
      refine v_iald F dX11_candidate_67 (ar_X11_58 hX hp) hi8 ?_
      cases h
      cases (show _ = r from K)
      exact v_iret F dX11_candidate_68
    · rw [if_neg hq5] at h
      by_cases hq9 : a3 = 1
      · rw [if_pos hq9] at h
        refine v_tableIn F dX11_candidate_20 hq9 (by decide) (by decide) rfl rfl ?_
        refine v_aload_n F dX11_candidate_69 rfl rfl ?_
        refine gf_X11_584 F dX11_candidate_70 hp (v := 1584) rfl ?_
        refine v_aload_n F dX11_candidate_73 rfl rfl ?_
        refine gf_X11_608 F dX11_candidate_74 hp (v := 1590) rfl ?_
        refine v_iload F dX11_candidate_77 rfl ?_
        obtain ⟨hi10, h⟩ := ck_some h
        refine v_iald F dX11_candidate_79 (ar_X11_66 hX hp) hi10 ?_
        obtain ⟨x11, ex11, h⟩ := lv_some h
        refine v_nI ex11 ?_
        obtain ⟨hi12, h⟩ := ck_some h
        refine v_iald F dX11_candidate_80 (ar_X11_59 hX hp) hi12 ?_
        cases h
        cases (show _ = r from K)
        exact v_iret F dX11_candidate_81
      · rw [if_neg hq9] at h
        by_cases hq13 : a3 = 2
        · rw [if_pos hq13] at h
          refine v_tableIn F dX11_candidate_20 hq13 (by decide) (by decide) rfl rfl ?_
          refine v_aload_n F dX11_candidate_82 rfl rfl ?_
          refine gf_X11_614 F dX11_candidate_83 hp (v := 1593) rfl ?_
          refine v_iload F dX11_candidate_86 rfl ?_
          obtain ⟨hi14, h⟩ := ck_some h
          refine v_iald F dX11_candidate_88 (ar_X11_69 hX hp) hi14 ?_
          cases h
          cases (show _ = r from K)
          exact v_iret F dX11_candidate_89
        · rw [if_neg hq13] at h
          by_cases hq15 : a3 = 3
          · rw [if_pos hq15] at h
            refine v_tableIn F dX11_candidate_20 hq15 (by decide) (by decide) rfl rfl ?_
            refine v_aload_n F dX11_candidate_90 rfl rfl ?_
            refine gf_X11_567 F dX11_candidate_91 hp (v := 1591) rfl ?_
            refine v_iload F dX11_candidate_94 rfl ?_
            obtain ⟨hi16, h⟩ := ck_some h
            refine v_zald F dX11_candidate_96 (ar_X11_67 hX hp) hi16 ?_
            refine v_if_eq F dX11_candidate_97 rfl (fun hq17 => ?_) (fun hq17 => ?_)
            · rw [if_pos hq17] at h
              refine v_iconst F dX11_candidate_104 ⟨by decide, by decide⟩ ?_
              cases h
              cases (show _ = r from K)
              exact v_iret F dX11_candidate_105
            · rw [if_neg hq17] at h
              refine v_iconst F dX11_candidate_100 ⟨by decide, by decide⟩ ?_
              refine v_goto F dX11_candidate_101 rfl ?_
              cases h
              cases (show _ = r from K)
              exact v_iret F dX11_candidate_105
          · rw [if_neg hq15] at h
            by_cases hq18 : a3 = 4
            · rw [if_pos hq18] at h
              refine v_tableIn F dX11_candidate_20 hq18 (by decide) (by decide) rfl rfl ?_
              refine v_aload_n F dX11_candidate_106 rfl rfl ?_
              refine gf_X11_608 F dX11_candidate_107 hp (v := 1590) rfl ?_
              refine v_iload F dX11_candidate_110 rfl ?_
              obtain ⟨hi19, h⟩ := ck_some h
              refine v_iald F dX11_candidate_112 (ar_X11_66 hX hp) hi19 ?_
              cases h
              cases (show _ = r from K)
              exact v_iret F dX11_candidate_113
            · rw [if_neg hq18] at h
              refine v_tableOut F dX11_candidate_20 (by omega) rfl ?_
              refine v_bipush F dX11_candidate_114 rfl ⟨by decide, by decide⟩ ?_
              cases h
              cases (show _ = r from K)
              exact v_iret F dX11_candidate_116
  · rw [if_pos hq3] at h
    refine v_iconst F dX11_candidate_9 ⟨by decide, by decide⟩ ?_
    cases h
    cases (show _ = r from K)
    exact v_iret F dX11_candidate_10
theorem vm_X0_stepped {w : Wd} {l : Launch} {X : Dt → Dt → Prop} {d m : Dt} {a1 : Int} : VM w l X yX0_stepped cX0_stepped 2 (some .long) 0 0 0 0 d m [mL a1] (some (mL (fX0_stepped a1))) d m := by
  obtain ⟨r, hr⟩ : ∃ r, fX0_stepped a1 = r := ⟨_, rfl⟩
  rw [hr]
  obtain ⟨x, h, K⟩ : ∃ x, fX0_stepped a1 = x ∧ x = r := ⟨_, hr, rfl⟩
  refine VM.of (L := [mL a1, mU]) (by decide +kernel) rfl (Nat.le_of_ble_eq_true rfl) fun G F _ => ?_
  unfold fX0_stepped at h
  refine v_lload_n F dX0_stepped_0 rfl rfl ?_
  refine v_ldc2 (n := 6364136223846793005) F dX0_stepped_1 q1765 rfl ⟨by decide, by decide⟩ ?_
  refine v_lmul F dX0_stepped_4 ?_
  refine v_ldc2 (n := 1442695040888963407) F dX0_stepped_5 q1766 rfl ⟨by decide, by decide⟩ ?_
  refine v_ladd F dX0_stepped_8 ?_
  subst h
  cases (show _ = r from K)
  exact v_lret F dX0_stepped_9
theorem vm_X0_placeOf {w : Wd} {l : Launch} {X : Dt → Dt → Prop} {d m : Dt} {a1 a2 : Int} {r : Int} (h : fX0_placeOf a1 a2 = some r) : VM w l X yX0_placeOf cX0_placeOf 3 (some .int) 0 0 0 0 d m [mL a1, mI a2] (some (mI r)) d m := by
  obtain ⟨x, h, K⟩ : ∃ x, fX0_placeOf a1 a2 = some x ∧ x = r := ⟨_, h, rfl⟩
  refine VM.of (L := [mL a1, mU, mI a2]) (by decide +kernel) rfl (Nat.le_of_ble_eq_true rfl) fun G F _ => ?_
  unfold fX0_placeOf at h
  refine v_lload_n F dX0_placeOf_0 rfl rfl ?_
  refine v_bipush F dX0_placeOf_1 rfl ⟨by decide, by decide⟩ ?_
  refine v_lushr F dX0_placeOf_3 ?_
  refine v_iload_n F dX0_placeOf_4 rfl rfl ?_
  refine v_i2l F dX0_placeOf_5 ?_
  obtain ⟨hz1, h⟩ := ck_some h
  refine v_lrem F dX0_placeOf_6 hz1 ?_
  refine v_l2i F dX0_placeOf_7 ?_
  cases h
  cases (show _ = r from K)
  exact v_iret F dX0_placeOf_8
def fX9_draw_10P (w : Wd) (l : Launch) (G : Cx) (Q : State → Prop) (m : Dt) (o a1 : Int) (s : Dt × Int × Int) : Prop := V w l WF G Q s.1 m 0 0 10 [mA o, mU, mU, mL (s.2.1), mU, mI (s.2.2), mU, mU] []
def fX9_draw_71P (w : Wd) (l : Launch) (G : Cx) (Q : State → Prop) (m : Dt) (o a1 : Int) (s : Dt × Int) : Prop := V w l WF G Q s.1 m 0 0 71 [mA o, mU, mU, mU, mU, mI (s.2), mU, mU] []
theorem fX9_draw_71f_ok {w : Wd} {l : Launch} {G : Cx} {m dd : Dt} {o a1 : Int} {d' : Dt} {s : Dt × Int} {x : ((Dt × Int) ⊕ Dt)} (F : Fx w G cX9_draw RX9 8 none { frames := 1, cells := 0, slots := 0, locals := 22 }) (hX : WF dd m) (hp : PB m o 9) (h : fX9_draw_71f o a1 s = some x) (K : (Sum.elim (fX9_draw_71P w l G (QM w G WF none d' m 0 0) m o a1) (fun q => q = d')) x) : V w l WF G (QM w G WF none d' m 0 0) s.1 m 0 0 71 [mA o, mU, mU, mU, mU, mI (s.2), mU, mU] [] := by
  obtain ⟨d, v5⟩ := s
  unfold fX9_draw_71f at h
  dsimp only at h
  refine v_iload F dX9_draw_71 rfl ?_
  refine v_aload_n F dX9_draw_73 rfl rfl ?_
  refine gf_X9_38 F dX9_draw_74 hp ?_
  refine v_icmp_ge F dX9_draw_77 rfl (fun hq3 => ?_) (fun hq3 => ?_)
  · rw [if_pos hq3] at h
    obtain ⟨z, hu, ez⟩ := up_some h
    clear h
    subst ez
    have h := hu
    clear hu
    refine v_aload_n F dX9_draw_100 rfl rfl ?_
    refine v_iconst F dX9_draw_101 ⟨by decide, by decide⟩ ?_
    obtain ⟨d4, ed4, h⟩ := sd_some h
    refine pf_X9_41 F dX9_draw_102 hp (Or.inr rfl) ?_
    refine v_nD ed4 ?_
    cases h
    cases (show _ = d' from K)
    exact v_vret F dX9_draw_105
  · rw [if_neg hq3] at h
    refine v_aload_n F dX9_draw_80 rfl rfl ?_
    refine gf_X9_31 F dX9_draw_81 hp (v := (o + 7)) rfl ?_
    refine v_aload_n F dX9_draw_84 rfl rfl ?_
    refine gf_X9_28 F dX9_draw_85 hp (v := (o + 6)) rfl ?_
    refine v_iload F dX9_draw_88 rfl ?_
    obtain ⟨hi5, h⟩ := ck_some h
    refine v_iald F dX9_draw_90 (ar_X9_7 hX hp) hi5 ?_
    refine v_iload F dX9_draw_91 rfl ?_
    obtain ⟨x6, ex6, h⟩ := lv_some h
    refine v_n2 ex6 ?_
    obtain ⟨hi7, h⟩ := ck_some h
    obtain ⟨d8, ed8, h⟩ := sd_some h
    refine v_iast F dX9_draw_93 (ar_X9_8 hX hp) hi7 ?_
    refine v_nD ed8 ?_
    obtain ⟨x9, ex9, h⟩ := lv_some h
    refine v_iincN F dX9_draw_94 (Nat.le_of_ble_eq_true rfl) rfl ex9 (L' := [mA o, mU, mU, mU, mU, mI x9, mU, mU]) rfl ?_
    refine v_goto F dX9_draw_97 rfl ?_
    cases h
    exact K
theorem fX9_draw_71_ok {w : Wd} {l : Launch} {G : Cx} {d m dd : Dt} {o a1 v5 : Int} {d' : Dt} {x : Dt} (F : Fx w G cX9_draw RX9 8 none { frames := 1, cells := 0, slots := 0, locals := 22 }) (hX : WF dd m) (hp : PB m o 9) (h : fX9_draw_71 d o a1 v5 = some x) (K : (fun q => q = d') x) : V w l WF G (QM w G WF none d' m 0 0) d m 0 0 71 [mA o, mU, mU, mU, mU, mI v5, mU, mU] [] := by
  unfold fX9_draw_71 at h
  exact loop_ok (P := fX9_draw_71P w l G (QM w G WF none d' m 0 0) m o a1) (fun s x hx h1 h2 => fX9_draw_71f_ok F hX hp hx (by
    cases x with
    | inl s' => exact h1 s' rfl
    | inr z => cases h2 z rfl; exact K)) h
theorem fX9_draw_10f_ok {w : Wd} {l : Launch} {G : Cx} {m dd : Dt} {o a1 : Int} {d' : Dt} {s : Dt × Int × Int} {x : ((Dt × Int × Int) ⊕ Dt)} (F : Fx w G cX9_draw RX9 8 none { frames := 1, cells := 0, slots := 0, locals := 22 }) (hX : WF dd m) (hp : PB m o 9) (h : fX9_draw_10f o a1 s = some x) (K : (Sum.elim (fX9_draw_10P w l G (QM w G WF none d' m 0 0) m o a1) (fun q => q = d')) x) : V w l WF G (QM w G WF none d' m 0 0) s.1 m 0 0 10 [mA o, mU, mU, mL (s.2.1), mU, mI (s.2.2), mU, mU] [] := by
  obtain ⟨d, v3, v5⟩ := s
  unfold fX9_draw_10f at h
  dsimp only at h
  refine v_iload F dX9_draw_10 rfl ?_
  refine v_if_le F dX9_draw_12 rfl (fun hq2 => ?_) (fun hq2 => ?_)
  · rw [if_pos hq2] at h
    obtain ⟨z, hu, ez⟩ := up_some h
    clear h
    subst ez
    have h := hu
    clear hu
    refine v_iconst F dX9_draw_68 ⟨by decide, by decide⟩ ?_
    refine v_istore F dX9_draw_69 (Nat.le_of_ble_eq_true rfl) (L' := [mA o, mU, mU, mL v3, mU, mI 0, mU, mU]) rfl ?_
    refine v_fgt (L' := [mA o, mU, mU, mU, mU, mI 0, mU, mU]) ⟨Or.inl rfl, Or.inl rfl, Or.inl rfl, Or.inr rfl, Or.inl rfl, Or.inl rfl, Or.inl rfl, Or.inl rfl, trivial⟩ ?_
    exact fX9_draw_71_ok F hX hp h K
  · rw [if_neg hq2] at h
    refine v_lload_n F dX9_draw_15 rfl rfl ?_
    refine v_callSv F dX9_draw_16 cs_X9_56 rfl (vm_X0_stepped) rfl (rOk.of rfl) ?_
    obtain ⟨x10, ex10, h⟩ := lv_some h
    refine v_nL ex10 ?_
    refine v_lstore_n F dX9_draw_19 rfl (Nat.le_of_ble_eq_true rfl) (L' := [mA o, mU, mU, mL x10, mU, mI v5, mU, mU]) rfl ?_
    refine v_lload_n F dX9_draw_20 rfl rfl ?_
    refine v_iload F dX9_draw_21 rfl ?_
    refine v_iconst F dX9_draw_23 ⟨by decide, by decide⟩ ?_
    refine v_iadd F dX9_draw_24 ?_
    obtain ⟨x11, hc12, h⟩ := b1_some h
    refine v_callSv F dX9_draw_25 cs_X9_60 rfl (vm_X0_placeOf hc12) rfl (rOk.of rfl) ?_
    refine v_istore F dX9_draw_28 (Nat.le_of_ble_eq_true rfl) (L' := [mA o, mU, mU, mL x10, mU, mI v5, mI x11, mU]) rfl ?_
    refine v_aload_n F dX9_draw_30 rfl rfl ?_
    refine gf_X9_28 F dX9_draw_31 hp (v := (o + 6)) rfl ?_
    refine v_iload F dX9_draw_34 rfl ?_
    obtain ⟨hi13, h⟩ := ck_some h
    refine v_iald F dX9_draw_36 (ar_X9_7 hX hp) hi13 ?_
    obtain ⟨x14, ex14, h⟩ := lv_some h
    refine v_nI ex14 ?_
    refine v_istore F dX9_draw_37 (Nat.le_of_ble_eq_true rfl) (L' := [mA o, mU, mU, mL x10, mU, mI v5, mI x11, mI x14]) rfl ?_
    refine v_aload_n F dX9_draw_39 rfl rfl ?_
    refine gf_X9_28 F dX9_draw_40 hp (v := (o + 6)) rfl ?_
    refine v_iload F dX9_draw_43 rfl ?_
    refine v_aload_n F dX9_draw_45 rfl rfl ?_
    refine gf_X9_28 F dX9_draw_46 hp (v := (o + 6)) rfl ?_
    refine v_iload F dX9_draw_49 rfl ?_
    obtain ⟨hi15, h⟩ := ck_some h
    refine v_iald F dX9_draw_51 (ar_X9_7 hX hp) hi15 ?_
    obtain ⟨d16, ed16, h⟩ := sd_some h
    refine v_iast F dX9_draw_52 (ar_X9_7 hX hp) hi13 ?_
    refine v_nD ed16 ?_
    refine v_aload_n F dX9_draw_53 rfl rfl ?_
    refine gf_X9_28 F dX9_draw_54 hp (v := (o + 6)) rfl ?_
    refine v_iload F dX9_draw_57 rfl ?_
    refine v_iload F dX9_draw_59 rfl ?_
    obtain ⟨d17, ed17, h⟩ := sd_some h
    refine v_iast F dX9_draw_61 (ar_X9_7 hX hp) hi15 ?_
    refine v_nD ed17 ?_
    obtain ⟨x18, ex18, h⟩ := lv_some h
    refine v_iincN F dX9_draw_62 (Nat.le_of_ble_eq_true rfl) rfl ex18 (L' := [mA o, mU, mU, mL x10, mU, mI x18, mI x11, mI x14]) rfl ?_
    refine v_goto F dX9_draw_65 rfl ?_
    cases h
    refine v_fgt (L' := [mA o, mU, mU, mL x10, mU, mI x18, mU, mU]) ⟨Or.inl rfl, Or.inl rfl, Or.inl rfl, Or.inl rfl, Or.inl rfl, Or.inl rfl, Or.inr rfl, Or.inr rfl, trivial⟩ ?_
    exact K
theorem fX9_draw_10_ok {w : Wd} {l : Launch} {G : Cx} {d m dd : Dt} {o a1 v3 v5 : Int} {d' : Dt} {x : Dt} (F : Fx w G cX9_draw RX9 8 none { frames := 1, cells := 0, slots := 0, locals := 22 }) (hX : WF dd m) (hp : PB m o 9) (h : fX9_draw_10 d o a1 v3 v5 = some x) (K : (fun q => q = d') x) : V w l WF G (QM w G WF none d' m 0 0) d m 0 0 10 [mA o, mU, mU, mL v3, mU, mI v5, mU, mU] [] := by
  unfold fX9_draw_10 at h
  exact loop_ok (P := fX9_draw_10P w l G (QM w G WF none d' m 0 0) m o a1) (fun s x hx h1 h2 => fX9_draw_10f_ok F hX hp hx (by
    cases x with
    | inl s' => exact h1 s' rfl
    | inr z => cases h2 z rfl; exact K)) h
theorem vm_X9_draw {w : Wd} {l : Launch} {d m : Dt} {o a1 : Int} {d' : Dt} (hp : PB m o 9) (h : fX9_draw d o a1 = some d') : VM w l WF yX9_draw cX9_draw 8 none 1 22 0 0 d m [mA o, mL a1] none d' m := by
  obtain ⟨x, h, K⟩ : ∃ x, fX9_draw d o a1 = some x ∧ x = d' := ⟨_, h, rfl⟩
  refine VM.of (L := [mA o, mL a1, mU, mU, mU, mU, mU, mU]) (by decide +kernel) rfl (Nat.le_of_ble_eq_true rfl) fun G F _ => v_fact fun _ hX _ _ => ?_
  unfold fX9_draw at h
  refine v_lload_n F dX9_draw_0 rfl rfl ?_
  refine v_lstore_n F dX9_draw_1 rfl (Nat.le_of_ble_eq_true rfl) (L' := [mA o, mL a1, mU, mL a1, mU, mU, mU, mU]) rfl ?_
  refine v_aload_n F dX9_draw_2 rfl rfl ?_
  refine gf_X9_38 F dX9_draw_3 hp ?_
  refine v_iconst F dX9_draw_6 ⟨by decide, by decide⟩ ?_
  refine v_isub F dX9_draw_7 ?_
  obtain ⟨x1, ex1, h⟩ := lv_some h
  refine v_nI ex1 ?_
  refine v_istore F dX9_draw_8 (Nat.le_of_ble_eq_true rfl) (L' := [mA o, mL a1, mU, mL a1, mU, mI x1, mU, mU]) rfl ?_
  refine v_fgt (L' := [mA o, mU, mU, mL a1, mU, mI x1, mU, mU]) ⟨Or.inl rfl, Or.inr rfl, Or.inl rfl, Or.inl rfl, Or.inl rfl, Or.inl rfl, Or.inl rfl, Or.inl rfl, trivial⟩ ?_
  exact fX9_draw_10_ok F hX hp h K
theorem vm_X0_lots {w : Wd} {l : Launch} {d m : Dt} {a1 a2 : Int} {d' : Dt} {r : Int} (hp : PB m 1 0) (h : fX0_lots d a1 a2 = some (d', r)) : VM w l WF yX0_lots cX0_lots 4 (some .int) 4 115 0 0 d m [mA 1, mI a1, mL a2] (some (mI r)) d' m := by
  obtain ⟨x, h, K⟩ : ∃ x, fX0_lots d a1 a2 = some x ∧ x = (d', r) := ⟨_, h, rfl⟩
  refine VM.of (L := [mA 1, mI a1, mL a2, mU]) (by decide +kernel) rfl (Nat.le_of_ble_eq_true rfl) fun G F _ => v_fact fun _ hX _ _ => ?_
  unfold fX0_lots at h
  refine v_aload_n F dX0_lots_0 rfl rfl ?_
  refine v_iload_n F dX0_lots_1 rfl rfl ?_
  obtain ⟨x1, hc2, h⟩ := b1_some h
  refine v_callVv (c := 0) F dX0_lots_2 cv_X0_296 rfl (PB.ob hp hX (Nat.le_of_ble_eq_true rfl)) (Nat.le_of_ble_eq_true rfl) rfl (vm_X0_isContest hp hc2) rfl (rOk.of rfl) ?_
  refine v_if_ne F dX0_lots_5 rfl (fun hq3 => ?_) (fun hq3 => ?_)
  · rw [if_neg hq3] at h
    refine v_aload_n F dX0_lots_10 rfl rfl ?_
    refine gf_X0_265 F dX0_lots_11 hp ?_
    refine v_if_ne F dX0_lots_14 rfl (fun hq4 => ?_) (fun hq4 => ?_)
    · rw [if_neg hq4] at h
      refine v_aload_n F dX0_lots_20 rfl rfl ?_
      refine gf_X0_62 F dX0_lots_21 hp (v := 57) rfl ?_
      refine v_iload_n F dX0_lots_24 rfl rfl ?_
      obtain ⟨hi5, h⟩ := ck_some h
      refine v_aaldF (c := 0) (k := 13) F dX0_lots_25 hp (Nat.le_of_ble_eq_true rfl) (Nat.le_of_ble_eq_true rfl) (by decide) (by decide) rfl (ar_X0_13 hX hp) (Nat.le_of_ble_eq_true rfl) rfl rfl rfl rfl hi5 (v := (629 + 8 * a1)) (by show 1 + 628 + 8 * a1 = _; omega) ?_
      refine gf_X0_423 F dX0_lots_26 (ae_X0_13 (i := a1) hX hp hi5 (v := (629 + 8 * a1)) (by omega)) ?_
      refine v_if_eq F dX0_lots_29 rfl (fun hq6 => ?_) (fun hq6 => ?_)
      · rw [if_pos hq6] at h
        refine v_aload_n F dX0_lots_35 rfl rfl ?_
        refine gf_X0_62 F dX0_lots_36 hp (v := 57) rfl ?_
        refine v_iload_n F dX0_lots_39 rfl rfl ?_
        refine v_aaldF (c := 0) (k := 13) F dX0_lots_40 hp (Nat.le_of_ble_eq_true rfl) (Nat.le_of_ble_eq_true rfl) (by decide) (by decide) rfl (ar_X0_13 hX hp) (Nat.le_of_ble_eq_true rfl) rfl rfl rfl rfl hi5 (v := (629 + 8 * a1)) (by show 1 + 628 + 8 * a1 = _; omega) ?_
        refine v_lload_n F dX0_lots_41 rfl rfl ?_
        obtain ⟨d7, hc8, h⟩ := bd_some h
        refine v_callV0 (c := 9) F dX0_lots_42 cv_X0_426 rfl (PB.ob (ae_X0_13 (i := a1) hX hp hi5 (v := (629 + 8 * a1)) (by omega)) hX (Nat.le_of_ble_eq_true rfl)) (Nat.le_of_ble_eq_true rfl) rfl (vm_X9_draw (ae_X0_13 (i := a1) hX hp hi5 (v := (629 + 8 * a1)) (by omega)) hc8) rfl (rOk.of rfl) ?_
        refine v_aload_n F dX0_lots_45 rfl rfl ?_
        refine v_bipush F dX0_lots_46 rfl ⟨by decide, by decide⟩ ?_
        refine v_iload_n F dX0_lots_48 rfl rfl ?_
        refine v_lload_n F dX0_lots_49 rfl rfl ?_
        refine v_bipush F dX0_lots_50 rfl ⟨by decide, by decide⟩ ?_
        refine v_lshr F dX0_lots_52 ?_
        refine v_l2i F dX0_lots_53 ?_
        refine v_lload_n F dX0_lots_54 rfl rfl ?_
        refine v_l2i F dX0_lots_55 ?_
        refine v_iconst F dX0_lots_56 ⟨by decide, by decide⟩ ?_
        obtain ⟨d9, hc10, h⟩ := bd_some h
        refine v_callV0 (c := 0) F dX0_lots_57 cv_X0_173 rfl (PB.ob hp hX (Nat.le_of_ble_eq_true rfl)) (Nat.le_of_ble_eq_true rfl) rfl (vm_X0_write hp hc10) rfl (rOk.of rfl) ?_
        refine v_aload_n F dX0_lots_60 rfl rfl ?_
        refine gf_X0_62 F dX0_lots_61 hp (v := 57) rfl ?_
        refine v_iload_n F dX0_lots_64 rfl rfl ?_
        refine v_aaldF (c := 0) (k := 13) F dX0_lots_65 hp (Nat.le_of_ble_eq_true rfl) (Nat.le_of_ble_eq_true rfl) (by decide) (by decide) rfl (ar_X0_13 hX hp) (Nat.le_of_ble_eq_true rfl) rfl rfl rfl rfl hi5 (v := (629 + 8 * a1)) (by show 1 + 628 + 8 * a1 = _; omega) ?_
        refine gf_X0_317 F dX0_lots_66 (ae_X0_13 (i := a1) hX hp hi5 (v := (629 + 8 * a1)) (by omega)) ?_
        cases h
        cases (show _ = (d', r) from K)
        exact v_iret F dX0_lots_69
      · rw [if_neg hq6] at h
        refine v_bipush F dX0_lots_32 rfl ⟨by decide, by decide⟩ ?_
        cases h
        cases (show _ = (d', r) from K)
        exact v_iret F dX0_lots_34
    · rw [if_pos hq4] at h
      refine v_bipush F dX0_lots_17 rfl ⟨by decide, by decide⟩ ?_
      cases h
      cases (show _ = (d', r) from K)
      exact v_iret F dX0_lots_19
  · rw [if_pos hq3] at h
    refine v_iconst F dX0_lots_8 ⟨by decide, by decide⟩ ?_
    cases h
    cases (show _ = (d', r) from K)
    exact v_iret F dX0_lots_9
theorem vm_X11_nextOf {w : Wd} {l : Launch} {X : Dt → Dt → Prop} {d m : Dt} {a1 : Int} : VM w l X yX11_nextOf cX11_nextOf 2 (some .long) 0 0 0 0 d m [mL a1] (some (mL (fX11_nextOf a1))) d m := by
  obtain ⟨r, hr⟩ : ∃ r, fX11_nextOf a1 = r := ⟨_, rfl⟩
  rw [hr]
  obtain ⟨x, h, K⟩ : ∃ x, fX11_nextOf a1 = x ∧ x = r := ⟨_, hr, rfl⟩
  refine VM.of (L := [mL a1, mU]) (by decide +kernel) rfl (Nat.le_of_ble_eq_true rfl) fun G F _ => ?_
  unfold fX11_nextOf at h
  refine v_lload_n F dX11_nextOf_0 rfl rfl ?_
  refine v_ldc2 (n := 6364136223846793005) F dX11_nextOf_1 q2850 rfl ⟨by decide, by decide⟩ ?_
  refine v_lmul F dX11_nextOf_4 ?_
  refine v_ldc2 (n := 1442695040888963407) F dX11_nextOf_5 q2851 rfl ⟨by decide, by decide⟩ ?_
  refine v_ladd F dX11_nextOf_8 ?_
  subst h
  cases (show _ = r from K)
  exact v_lret F dX11_nextOf_9
def fX11_lots_58P (w : Wd) (l : Launch) (G : Cx) (Q : State → Prop) (m : Dt) (a1 a2 v4 : Int) (s : Dt × Int × Int) : Prop := V w l WF G Q s.1 m 0 0 58 [mA 1545, mI a1, mL a2, mU, mI v4, mL (s.2.1), mU, mI (s.2.2), mU, mU] []
def fX11_lots_138P (w : Wd) (l : Launch) (G : Cx) (Q : State → Prop) (m : Dt) (a1 a2 v4 : Int) (s : Dt × Int) : Prop := V w l WF G Q s.1 m 0 0 138 [mA 1545, mI a1, mL a2, mU, mI v4, mU, mU, mI (s.2), mU, mU] []
theorem fX11_lots_138f_ok {w : Wd} {l : Launch} {G : Cx} {m dd : Dt} {a1 a2 v4 : Int} {d' : Dt} {r : Int} {s : Dt × Int} {x : ((Dt × Int) ⊕ (Dt × Int))} (F : Fx w G cX11_lots RX11 10 (some .int) { frames := 3, cells := 0, slots := 0, locals := 73 }) (hX : WF dd m) (hp : PB m 1545 11) (h : fX11_lots_138f a1 a2 v4 s = some x) (K : (Sum.elim (fX11_lots_138P w l G (QM w G WF (some (mI r)) d' m 0 0) m a1 a2 v4) (fun q => q = (d', r))) x) : V w l WF G (QM w G WF (some (mI r)) d' m 0 0) s.1 m 0 0 138 [mA 1545, mI a1, mL a2, mU, mI v4, mU, mU, mI (s.2), mU, mU] [] := by
  obtain ⟨d, v7⟩ := s
  unfold fX11_lots_138f at h
  dsimp only at h
  refine v_iload F dX11_lots_138 rfl ?_
  refine v_aload_n F dX11_lots_140 rfl rfl ?_
  refine gf_X11_488 F dX11_lots_141 hp (v := 1589) rfl ?_
  refine v_iload_n F dX11_lots_144 rfl rfl ?_
  obtain ⟨hi9, h⟩ := ck_some h
  refine v_iald F dX11_lots_145 (ar_X11_65 hX hp) hi9 ?_
  refine v_icmp_ge F dX11_lots_146 rfl (fun hq10 => ?_) (fun hq10 => ?_)
  · rw [if_pos hq10] at h
    obtain ⟨z, hu, ez⟩ := up_some h
    clear h
    subst ez
    have h := hu
    clear hu
    refine v_aload_n F dX11_lots_175 rfl rfl ?_
    refine v_bipush F dX11_lots_176 rfl ⟨by decide, by decide⟩ ?_
    refine v_iload_n F dX11_lots_178 rfl rfl ?_
    refine v_lload_n F dX11_lots_179 rfl rfl ?_
    refine v_bipush F dX11_lots_180 rfl ⟨by decide, by decide⟩ ?_
    refine v_lshr F dX11_lots_182 ?_
    refine v_l2i F dX11_lots_183 ?_
    refine v_lload_n F dX11_lots_184 rfl rfl ?_
    refine v_l2i F dX11_lots_185 ?_
    refine v_iconst F dX11_lots_186 ⟨by decide, by decide⟩ ?_
    obtain ⟨d11, hc12, h⟩ := bd_some h
    refine v_callV0 (c := 11) F dX11_lots_187 cv_X11_22 rfl (PB.ob hp hX (Nat.le_of_ble_eq_true rfl)) (Nat.le_of_ble_eq_true rfl) rfl (vm_X11_write hp hc12) rfl (rOk.of rfl) ?_
    refine v_aload_n F dX11_lots_190 rfl rfl ?_
    refine gf_X11_488 F dX11_lots_191 hp (v := 1589) rfl ?_
    refine v_iload_n F dX11_lots_194 rfl rfl ?_
    refine v_iald F dX11_lots_195 (ar_X11_65 hX hp) hi9 ?_
    cases h
    cases (show _ = (d', r) from K)
    exact v_iret F dX11_lots_196
  · rw [if_neg hq10] at h
    refine v_aload_n F dX11_lots_149 rfl rfl ?_
    refine gf_X11_614 F dX11_lots_150 hp (v := 1593) rfl ?_
    refine v_iload F dX11_lots_153 rfl ?_
    refine v_aload_n F dX11_lots_155 rfl rfl ?_
    refine gf_X11_611 F dX11_lots_156 hp (v := 1592) rfl ?_
    refine v_iload F dX11_lots_159 rfl ?_
    refine v_iload F dX11_lots_161 rfl ?_
    refine v_iadd F dX11_lots_163 ?_
    obtain ⟨x13, ex13, h⟩ := lv_some h
    refine v_nI ex13 ?_
    obtain ⟨hi14, h⟩ := ck_some h
    refine v_iald F dX11_lots_164 (ar_X11_68 hX hp) hi14 ?_
    refine v_iadd F dX11_lots_165 ?_
    refine v_iload F dX11_lots_166 rfl ?_
    obtain ⟨x15, ex15, h⟩ := lv_some h
    refine v_n2 ex15 ?_
    obtain ⟨hi16, h⟩ := ck_some h
    obtain ⟨d17, ed17, h⟩ := sd_some h
    refine v_iast F dX11_lots_168 (ar_X11_69 hX hp) hi16 ?_
    refine v_nD ed17 ?_
    obtain ⟨x18, ex18, h⟩ := lv_some h
    refine v_iincN F dX11_lots_169 (Nat.le_of_ble_eq_true rfl) rfl ex18 (L' := [mA 1545, mI a1, mL a2, mU, mI v4, mU, mU, mI x18, mU, mU]) rfl ?_
    refine v_goto F dX11_lots_172 rfl ?_
    cases h
    exact K
theorem fX11_lots_138_ok {w : Wd} {l : Launch} {G : Cx} {d m dd : Dt} {a1 a2 v4 v7 : Int} {d' : Dt} {r : Int} {x : (Dt × Int)} (F : Fx w G cX11_lots RX11 10 (some .int) { frames := 3, cells := 0, slots := 0, locals := 73 }) (hX : WF dd m) (hp : PB m 1545 11) (h : fX11_lots_138 d a1 a2 v4 v7 = some x) (K : (fun q => q = (d', r)) x) : V w l WF G (QM w G WF (some (mI r)) d' m 0 0) d m 0 0 138 [mA 1545, mI a1, mL a2, mU, mI v4, mU, mU, mI v7, mU, mU] [] := by
  unfold fX11_lots_138 at h
  exact loop_ok (P := fX11_lots_138P w l G (QM w G WF (some (mI r)) d' m 0 0) m a1 a2 v4) (fun s x hx h1 h2 => fX11_lots_138f_ok F hX hp hx (by
    cases x with
    | inl s' => exact h1 s' rfl
    | inr z => cases h2 z rfl; exact K)) h
theorem fX11_lots_58f_ok {w : Wd} {l : Launch} {G : Cx} {m dd : Dt} {a1 a2 v4 : Int} {d' : Dt} {r : Int} {s : Dt × Int × Int} {x : ((Dt × Int × Int) ⊕ (Dt × Int))} (F : Fx w G cX11_lots RX11 10 (some .int) { frames := 3, cells := 0, slots := 0, locals := 73 }) (hX : WF dd m) (hp : PB m 1545 11) (h : fX11_lots_58f a1 a2 v4 s = some x) (K : (Sum.elim (fX11_lots_58P w l G (QM w G WF (some (mI r)) d' m 0 0) m a1 a2 v4) (fun q => q = (d', r))) x) : V w l WF G (QM w G WF (some (mI r)) d' m 0 0) s.1 m 0 0 58 [mA 1545, mI a1, mL a2, mU, mI v4, mL (s.2.1), mU, mI (s.2.2), mU, mU] [] := by
  obtain ⟨d, v5, v7⟩ := s
  unfold fX11_lots_58f at h
  dsimp only at h
  refine v_iload F dX11_lots_58 rfl ?_
  refine v_iconst F dX11_lots_60 ⟨by decide, by decide⟩ ?_
  refine v_icmp_lt F dX11_lots_61 rfl (fun hq8 => ?_) (fun hq8 => ?_)
  · rw [if_pos hq8] at h
    obtain ⟨z, hu, ez⟩ := up_some h
    clear h
    subst ez
    have h := hu
    clear hu
    refine v_iconst F dX11_lots_135 ⟨by decide, by decide⟩ ?_
    refine v_istore F dX11_lots_136 (Nat.le_of_ble_eq_true rfl) (L' := [mA 1545, mI a1, mL a2, mU, mI v4, mL v5, mU, mI 0, mU, mU]) rfl ?_
    refine v_fgt (L' := [mA 1545, mI a1, mL a2, mU, mI v4, mU, mU, mI 0, mU, mU]) ⟨Or.inl rfl, Or.inl rfl, Or.inl rfl, Or.inl rfl, Or.inl rfl, Or.inr rfl, Or.inl rfl, Or.inl rfl, Or.inl rfl, Or.inl rfl, trivial⟩ ?_
    exact fX11_lots_138_ok F hX hp h K
  · rw [if_neg hq8] at h
    refine v_lload F dX11_lots_64 rfl ?_
    refine v_callSv F dX11_lots_66 cs_X11_645 rfl (vm_X11_nextOf) rfl (rOk.of rfl) ?_
    obtain ⟨x19, ex19, h⟩ := lv_some h
    refine v_nL ex19 ?_
    refine v_lstore F dX11_lots_69 (Nat.le_of_ble_eq_true rfl) (L' := [mA 1545, mI a1, mL a2, mU, mI v4, mL x19, mU, mI v7, mU, mU]) rfl ?_
    refine v_lload F dX11_lots_71 rfl ?_
    refine v_bipush F dX11_lots_73 rfl ⟨by decide, by decide⟩ ?_
    refine v_lushr F dX11_lots_75 ?_
    refine v_iload F dX11_lots_76 rfl ?_
    refine v_iconst F dX11_lots_78 ⟨by decide, by decide⟩ ?_
    refine v_iadd F dX11_lots_79 ?_
    refine v_i2l F dX11_lots_80 ?_
    obtain ⟨x20, ex20, h⟩ := lv_some h
    refine v_nL ex20 ?_
    obtain ⟨hz21, h⟩ := ck_some h
    refine v_lrem F dX11_lots_81 hz21 ?_
    refine v_l2i F dX11_lots_82 ?_
    obtain ⟨x22, ex22, h⟩ := lv_some h
    refine v_nI ex22 ?_
    refine v_istore F dX11_lots_83 (Nat.le_of_ble_eq_true rfl) (L' := [mA 1545, mI a1, mL a2, mU, mI v4, mL x19, mU, mI v7, mI x22, mU]) rfl ?_
    refine v_aload_n F dX11_lots_85 rfl rfl ?_
    refine gf_X11_611 F dX11_lots_86 hp (v := 1592) rfl ?_
    refine v_iload F dX11_lots_89 rfl ?_
    refine v_iload F dX11_lots_91 rfl ?_
    refine v_iadd F dX11_lots_93 ?_
    obtain ⟨x23, ex23, h⟩ := lv_some h
    refine v_nI ex23 ?_
    obtain ⟨hi24, h⟩ := ck_some h
    refine v_iald F dX11_lots_94 (ar_X11_68 hX hp) hi24 ?_
    obtain ⟨x25, ex25, h⟩ := lv_some h
    refine v_nI ex25 ?_
    refine v_istore F dX11_lots_95 (Nat.le_of_ble_eq_true rfl) (L' := [mA 1545, mI a1, mL a2, mU, mI v4, mL x19, mU, mI v7, mI x22, mI x25]) rfl ?_
    refine v_aload_n F dX11_lots_97 rfl rfl ?_
    refine gf_X11_611 F dX11_lots_98 hp (v := 1592) rfl ?_
    refine v_iload F dX11_lots_101 rfl ?_
    refine v_iload F dX11_lots_103 rfl ?_
    refine v_iadd F dX11_lots_105 ?_
    refine v_aload_n F dX11_lots_106 rfl rfl ?_
    refine gf_X11_611 F dX11_lots_107 hp (v := 1592) rfl ?_
    refine v_iload F dX11_lots_110 rfl ?_
    refine v_iload F dX11_lots_112 rfl ?_
    refine v_iadd F dX11_lots_114 ?_
    obtain ⟨x26, ex26, h⟩ := lv_some h
    refine v_nI ex26 ?_
    obtain ⟨hi27, h⟩ := ck_some h
    refine v_iald F dX11_lots_115 (ar_X11_68 hX hp) hi27 ?_
    obtain ⟨x28, ex28, h⟩ := lv_some h
    refine v_n2 ex28 ?_
    obtain ⟨hi29, h⟩ := ck_some h
    obtain ⟨d30, ed30, h⟩ := sd_some h
    refine v_iast F dX11_lots_116 (ar_X11_68 hX hp) hi29 ?_
    refine v_nD ed30 ?_
    refine v_aload_n F dX11_lots_117 rfl rfl ?_
    refine gf_X11_611 F dX11_lots_118 hp (v := 1592) rfl ?_
    refine v_iload F dX11_lots_121 rfl ?_
    refine v_iload F dX11_lots_123 rfl ?_
    refine v_iadd F dX11_lots_125 ?_
    refine v_iload F dX11_lots_126 rfl ?_
    obtain ⟨x31, ex31, h⟩ := lv_some h
    refine v_n2 ex31 ?_
    obtain ⟨hi32, h⟩ := ck_some h
    obtain ⟨d33, ed33, h⟩ := sd_some h
    refine v_iast F dX11_lots_128 (ar_X11_68 hX hp) hi32 ?_
    refine v_nD ed33 ?_
    obtain ⟨x34, ex34, h⟩ := lv_some h
    refine v_iincN F dX11_lots_129 (Nat.le_of_ble_eq_true rfl) rfl ex34 (L' := [mA 1545, mI a1, mL a2, mU, mI v4, mL x19, mU, mI x34, mI x22, mI x25]) rfl ?_
    refine v_goto F dX11_lots_132 rfl ?_
    cases h
    refine v_fgt (L' := [mA 1545, mI a1, mL a2, mU, mI v4, mL x19, mU, mI x34, mU, mU]) ⟨Or.inl rfl, Or.inl rfl, Or.inl rfl, Or.inl rfl, Or.inl rfl, Or.inl rfl, Or.inl rfl, Or.inl rfl, Or.inr rfl, Or.inr rfl, trivial⟩ ?_
    exact K
theorem fX11_lots_58_ok {w : Wd} {l : Launch} {G : Cx} {d m dd : Dt} {a1 a2 v4 v5 v7 : Int} {d' : Dt} {r : Int} {x : (Dt × Int)} (F : Fx w G cX11_lots RX11 10 (some .int) { frames := 3, cells := 0, slots := 0, locals := 73 }) (hX : WF dd m) (hp : PB m 1545 11) (h : fX11_lots_58 d a1 a2 v4 v5 v7 = some x) (K : (fun q => q = (d', r)) x) : V w l WF G (QM w G WF (some (mI r)) d' m 0 0) d m 0 0 58 [mA 1545, mI a1, mL a2, mU, mI v4, mL v5, mU, mI v7, mU, mU] [] := by
  unfold fX11_lots_58 at h
  exact loop_ok (P := fX11_lots_58P w l G (QM w G WF (some (mI r)) d' m 0 0) m a1 a2 v4) (fun s x hx h1 h2 => fX11_lots_58f_ok F hX hp hx (by
    cases x with
    | inl s' => exact h1 s' rfl
    | inr z => cases h2 z rfl; exact K)) h
theorem vm_X11_lots {w : Wd} {l : Launch} {d m : Dt} {a1 a2 : Int} {d' : Dt} {r : Int} (hp : PB m 1545 11) (h : fX11_lots d a1 a2 = some (d', r)) : VM w l WF yX11_lots cX11_lots 10 (some .int) 3 73 0 0 d m [mA 1545, mI a1, mL a2] (some (mI r)) d' m := by
  obtain ⟨x, h, K⟩ : ∃ x, fX11_lots d a1 a2 = some x ∧ x = (d', r) := ⟨_, h, rfl⟩
  refine VM.of (L := [mA 1545, mI a1, mL a2, mU, mU, mU, mU, mU, mU, mU]) (by decide +kernel) rfl (Nat.le_of_ble_eq_true rfl) fun G F _ => v_fact fun _ hX _ _ => ?_
  unfold fX11_lots at h
  refine v_aload_n F dX11_lots_0 rfl rfl ?_
  refine v_iload_n F dX11_lots_1 rfl rfl ?_
  refine v_callVv (c := 11) F dX11_lots_2 cv_X11_480 rfl (PB.ob hp hX (Nat.le_of_ble_eq_true rfl)) (Nat.le_of_ble_eq_true rfl) rfl (vm_X11_isContest hp) rfl (rOk.of rfl) ?_
  refine v_if_ne F dX11_lots_5 rfl (fun hq1 => ?_) (fun hq1 => ?_)
  · rw [if_neg hq1] at h
    refine v_aload_n F dX11_lots_10 rfl rfl ?_
    refine gf_X11_531 F dX11_lots_11 hp ?_
    refine v_if_ne F dX11_lots_14 rfl (fun hq2 => ?_) (fun hq2 => ?_)
    · rw [if_neg hq2] at h
      refine v_aload_n F dX11_lots_20 rfl rfl ?_
      refine gf_X11_546 F dX11_lots_21 hp (v := 1594) rfl ?_
      refine v_iload_n F dX11_lots_24 rfl rfl ?_
      obtain ⟨hi3, h⟩ := ck_some h
      refine v_zald F dX11_lots_25 (ar_X11_70 hX hp) hi3 ?_
      refine v_if_eq F dX11_lots_26 rfl (fun hq4 => ?_) (fun hq4 => ?_)
      · rw [if_pos hq4] at h
        refine v_aload_n F dX11_lots_32 rfl rfl ?_
        refine gf_X11_546 F dX11_lots_33 hp (v := 1594) rfl ?_
        refine v_iload_n F dX11_lots_36 rfl rfl ?_
        refine v_iconst F dX11_lots_37 ⟨by decide, by decide⟩ ?_
        obtain ⟨d5, ed5, h⟩ := sd_some h
        refine v_zast F dX11_lots_38 (ar_X11_70 hX hp) hi3 ?_
        refine v_nD ed5 ?_
        refine v_bipush F dX11_lots_39 rfl ⟨by decide, by decide⟩ ?_
        refine v_iload_n F dX11_lots_41 rfl rfl ?_
        refine v_imul F dX11_lots_42 ?_
        obtain ⟨x6, ex6, h⟩ := lv_some h
        refine v_nI ex6 ?_
        refine v_istore F dX11_lots_43 (Nat.le_of_ble_eq_true rfl) (L' := [mA 1545, mI a1, mL a2, mU, mI x6, mU, mU, mU, mU, mU]) rfl ?_
        refine v_lload_n F dX11_lots_45 rfl rfl ?_
        refine v_lstore F dX11_lots_46 (Nat.le_of_ble_eq_true rfl) (L' := [mA 1545, mI a1, mL a2, mU, mI x6, mL a2, mU, mU, mU, mU]) rfl ?_
        refine v_aload_n F dX11_lots_48 rfl rfl ?_
        refine gf_X11_488 F dX11_lots_49 hp (v := 1589) rfl ?_
        refine v_iload_n F dX11_lots_52 rfl rfl ?_
        refine v_iald F dX11_lots_53 (ar_X11_65 hX hp) hi3 ?_
        refine v_iconst F dX11_lots_54 ⟨by decide, by decide⟩ ?_
        refine v_isub F dX11_lots_55 ?_
        obtain ⟨x7, ex7, h⟩ := lv_some h
        refine v_nI ex7 ?_
        refine v_istore F dX11_lots_56 (Nat.le_of_ble_eq_true rfl) (L' := [mA 1545, mI a1, mL a2, mU, mI x6, mL a2, mU, mI x7, mU, mU]) rfl ?_
        exact fX11_lots_58_ok F hX hp h K
      · rw [if_neg hq4] at h
        refine v_bipush F dX11_lots_29 rfl ⟨by decide, by decide⟩ ?_
        cases h
        cases (show _ = (d', r) from K)
        exact v_iret F dX11_lots_31
    · rw [if_pos hq2] at h
      refine v_bipush F dX11_lots_17 rfl ⟨by decide, by decide⟩ ?_
      cases h
      cases (show _ = (d', r) from K)
      exact v_iret F dX11_lots_19
  · rw [if_pos hq1] at h
    refine v_iconst F dX11_lots_8 ⟨by decide, by decide⟩ ?_
    cases h
    cases (show _ = (d', r) from K)
    exact v_iret F dX11_lots_9
theorem vm_X0_station {w : Wd} {l : Launch} {d m : Dt} {d' : Dt} {r : Int} (hp : PB m 1 0) (h : fX0_station d = some (d', r)) : VM w l WF yX0_station cX0_station 1 (some .int) 4 115 0 0 d m [mA 1] (some (mI r)) d' m := by
  obtain ⟨x, h, K⟩ : ∃ x, fX0_station d = some x ∧ x = (d', r) := ⟨_, h, rfl⟩
  refine VM.of (L := [mA 1]) (by decide +kernel) rfl (Nat.le_of_ble_eq_true rfl) fun G F _ => v_fact fun _ hX _ _ => ?_
  unfold fX0_station at h
  refine v_aload_n F dX0_station_0 rfl rfl ?_
  refine gf_X0_237 F dX0_station_1 hp ?_
  refine v_if_ne F dX0_station_4 rfl (fun hq1 => ?_) (fun hq1 => ?_)
  · rw [if_neg hq1] at h
    refine v_aload_n F dX0_station_9 rfl rfl ?_
    refine gf_X0_167 F dX0_station_10 hp ?_
    refine v_aload_n F dX0_station_13 rfl rfl ?_
    obtain ⟨x2, ex2, h⟩ := lv_some h
    obtain ⟨hn4, h⟩ := ck_some h
    refine gf_X0_42 F dX0_station_14 hp ex2 fun hr3 => ?_
    have x2p := hr3.resolve_left hn4
    refine gf_X0_293 F dX0_station_17 x2p (v := (x2 + 1)) rfl ?_
    refine v_iconst F dX0_station_20 ⟨by decide, by decide⟩ ?_
    refine v_iald F dX0_station_21 (ar_X4_0 hX x2p) ⟨by decide, by decide⟩ ?_
    refine v_icmp_le F dX0_station_22 rfl (fun hq5 => ?_) (fun hq5 => ?_)
    · rw [if_pos hq5] at h
      refine v_aload_n F dX0_station_28 rfl rfl ?_
      refine gf_X0_274 F dX0_station_29 hp ?_
      refine v_bipush F dX0_station_32 rfl ⟨by decide, by decide⟩ ?_
      refine v_icmp_ne F dX0_station_34 rfl (fun hq6 => ?_) (fun hq6 => ?_)
      · rw [if_neg hq6] at h
        refine v_aload_n F dX0_station_40 rfl rfl ?_
        refine gf_X0_98 F dX0_station_41 hp (v := 67) rfl ?_
        refine v_aload_n F dX0_station_44 rfl rfl ?_
        refine gf_X0_274 F dX0_station_45 hp ?_
        refine v_iconst F dX0_station_48 ⟨by decide, by decide⟩ ?_
        obtain ⟨x7, ex7, h⟩ := lv_some h
        refine v_n2 ex7 ?_
        obtain ⟨hi8, h⟩ := ck_some h
        obtain ⟨d9, ed9, h⟩ := sd_some h
        refine v_iast F dX0_station_49 (ar_X0_27 hX hp) hi8 ?_
        refine v_nD ed9 ?_
        refine v_aload_n F dX0_station_50 rfl rfl ?_
        refine gf_X0_101 F dX0_station_51 hp (v := 68) rfl ?_
        refine v_aload_n F dX0_station_54 rfl rfl ?_
        refine gf_X0_274 F dX0_station_55 hp ?_
        refine v_iconst F dX0_station_58 ⟨by decide, by decide⟩ ?_
        obtain ⟨x10, ex10, h⟩ := lv_some h
        refine v_n2 ex10 ?_
        obtain ⟨hi11, h⟩ := ck_some h
        obtain ⟨d12, ed12, h⟩ := sd_some h
        refine v_zast F dX0_station_59 (ar_X0_28 hX hp) hi11 ?_
        refine v_nD ed12 ?_
        refine v_aload_n F dX0_station_60 rfl rfl ?_
        refine v_dup_A F dX0_station_61 ?_
        refine gf_X0_274 F dX0_station_62 hp ?_
        refine v_iconst F dX0_station_65 ⟨by decide, by decide⟩ ?_
        refine v_iadd F dX0_station_66 ?_
        obtain ⟨d13, ed13, h⟩ := sd_some h
        refine pf_X0_274 F dX0_station_67 hp ?_
        refine v_nD ed13 ?_
        refine v_aload_n F dX0_station_70 rfl rfl ?_
        refine v_bipush F dX0_station_71 rfl ⟨by decide, by decide⟩ ?_
        refine v_iconst F dX0_station_73 ⟨by decide, by decide⟩ ?_
        refine v_iconst F dX0_station_74 ⟨by decide, by decide⟩ ?_
        refine v_iconst F dX0_station_75 ⟨by decide, by decide⟩ ?_
        refine v_iconst F dX0_station_76 ⟨by decide, by decide⟩ ?_
        obtain ⟨d14, hc15, h⟩ := bd_some h
        refine v_callV0 (c := 0) F dX0_station_77 cv_X0_173 rfl (PB.ob hp hX (Nat.le_of_ble_eq_true rfl)) (Nat.le_of_ble_eq_true rfl) rfl (vm_X0_write hp hc15) rfl (rOk.of rfl) ?_
        refine v_aload_n F dX0_station_80 rfl rfl ?_
        refine gf_X0_274 F dX0_station_81 hp ?_
        refine v_iconst F dX0_station_84 ⟨by decide, by decide⟩ ?_
        refine v_isub F dX0_station_85 ?_
        cases h
        cases (show _ = (d', r) from K)
        exact v_iret F dX0_station_86
      · rw [if_pos hq6] at h
        refine v_bipush F dX0_station_37 rfl ⟨by decide, by decide⟩ ?_
        cases h
        cases (show _ = (d', r) from K)
        exact v_iret F dX0_station_39
    · rw [if_neg hq5] at h
      refine v_bipush F dX0_station_25 rfl ⟨by decide, by decide⟩ ?_
      cases h
      cases (show _ = (d', r) from K)
      exact v_iret F dX0_station_27
  · rw [if_pos hq1] at h
    refine v_iconst F dX0_station_7 ⟨by decide, by decide⟩ ?_
    cases h
    cases (show _ = (d', r) from K)
    exact v_iret F dX0_station_8
theorem vm_X11_station {w : Wd} {l : Launch} {d m : Dt} {d' : Dt} {r : Int} (hp : PB m 1545 11) (h : fX11_station d = some (d', r)) : VM w l WF yX11_station cX11_station 1 (some .int) 3 73 0 0 d m [mA 1545] (some (mI r)) d' m := by
  obtain ⟨x, h, K⟩ : ∃ x, fX11_station d = some x ∧ x = (d', r) := ⟨_, h, rfl⟩
  refine VM.of (L := [mA 1545]) (by decide +kernel) rfl (Nat.le_of_ble_eq_true rfl) fun G F _ => v_fact fun _ hX _ _ => ?_
  unfold fX11_station at h
  refine v_aload_n F dX11_station_0 rfl rfl ?_
  refine gf_X11_141 F dX11_station_1 hp ?_
  refine v_if_ne F dX11_station_4 rfl (fun hq1 => ?_) (fun hq1 => ?_)
  · rw [if_neg hq1] at h
    refine v_aload_n F dX11_station_9 rfl rfl ?_
    refine gf_X11_17 F dX11_station_10 hp ?_
    refine v_aload_n F dX11_station_13 rfl rfl ?_
    refine v_iconst F dX11_station_14 ⟨by decide, by decide⟩ ?_
    obtain ⟨x2, hc3, h⟩ := b1_some h
    refine v_callVv (c := 11) F dX11_station_15 cv_X11_466 rfl (PB.ob hp hX (Nat.le_of_ble_eq_true rfl)) (Nat.le_of_ble_eq_true rfl) rfl (vm_X11_lawIs hp hc3) rfl (rOk.of rfl) ?_
    refine v_icmp_le F dX11_station_18 rfl (fun hq4 => ?_) (fun hq4 => ?_)
    · rw [if_pos hq4] at h
      refine v_aload_n F dX11_station_24 rfl rfl ?_
      refine gf_X11_540 F dX11_station_25 hp ?_
      refine v_bipush F dX11_station_28 rfl ⟨by decide, by decide⟩ ?_
      refine v_icmp_ne F dX11_station_30 rfl (fun hq5 => ?_) (fun hq5 => ?_)
      · rw [if_neg hq5] at h
        refine v_aload_n F dX11_station_36 rfl rfl ?_
        refine gf_X11_649 F dX11_station_37 hp (v := 1601) rfl ?_
        refine v_aload_n F dX11_station_40 rfl rfl ?_
        refine gf_X11_540 F dX11_station_41 hp ?_
        refine v_iconst F dX11_station_44 ⟨by decide, by decide⟩ ?_
        obtain ⟨x6, ex6, h⟩ := lv_some h
        refine v_n2 ex6 ?_
        obtain ⟨hi7, h⟩ := ck_some h
        obtain ⟨d8, ed8, h⟩ := sd_some h
        refine v_iast F dX11_station_45 (ar_X11_80 hX hp) hi7 ?_
        refine v_nD ed8 ?_
        refine v_aload_n F dX11_station_46 rfl rfl ?_
        refine gf_X11_652 F dX11_station_47 hp (v := 1602) rfl ?_
        refine v_aload_n F dX11_station_50 rfl rfl ?_
        refine gf_X11_540 F dX11_station_51 hp ?_
        refine v_iconst F dX11_station_54 ⟨by decide, by decide⟩ ?_
        obtain ⟨x9, ex9, h⟩ := lv_some h
        refine v_n2 ex9 ?_
        obtain ⟨hi10, h⟩ := ck_some h
        obtain ⟨d11, ed11, h⟩ := sd_some h
        refine v_zast F dX11_station_55 (ar_X11_81 hX hp) hi10 ?_
        refine v_nD ed11 ?_
        refine v_aload_n F dX11_station_56 rfl rfl ?_
        refine v_bipush F dX11_station_57 rfl ⟨by decide, by decide⟩ ?_
        refine v_iconst F dX11_station_59 ⟨by decide, by decide⟩ ?_
        refine v_iconst F dX11_station_60 ⟨by decide, by decide⟩ ?_
        refine v_iconst F dX11_station_61 ⟨by decide, by decide⟩ ?_
        refine v_iconst F dX11_station_62 ⟨by decide, by decide⟩ ?_
        obtain ⟨d12, hc13, h⟩ := bd_some h
        refine v_callV0 (c := 11) F dX11_station_63 cv_X11_22 rfl (PB.ob hp hX (Nat.le_of_ble_eq_true rfl)) (Nat.le_of_ble_eq_true rfl) rfl (vm_X11_write hp hc13) rfl (rOk.of rfl) ?_
        refine v_aload_n F dX11_station_66 rfl rfl ?_
        refine v_dup_A F dX11_station_67 ?_
        refine gf_X11_540 F dX11_station_68 hp ?_
        obtain ⟨x14, ex14, h⟩ := lv_some h
        refine v_nI ex14 ?_
        refine v_dup_x1_IA F dX11_station_71 ?_
        refine v_iconst F dX11_station_72 ⟨by decide, by decide⟩ ?_
        refine v_iadd F dX11_station_73 ?_
        obtain ⟨d15, ed15, h⟩ := sd_some h
        refine pf_X11_540 F dX11_station_74 hp ?_
        refine v_nD ed15 ?_
        cases h
        cases (show _ = (d', r) from K)
        exact v_iret F dX11_station_77
      · rw [if_pos hq5] at h
        refine v_bipush F dX11_station_33 rfl ⟨by decide, by decide⟩ ?_
        cases h
        cases (show _ = (d', r) from K)
        exact v_iret F dX11_station_35
    · rw [if_neg hq4] at h
      refine v_bipush F dX11_station_21 rfl ⟨by decide, by decide⟩ ?_
      cases h
      cases (show _ = (d', r) from K)
      exact v_iret F dX11_station_23
  · rw [if_pos hq1] at h
    refine v_iconst F dX11_station_7 ⟨by decide, by decide⟩ ?_
    cases h
    cases (show _ = (d', r) from K)
    exact v_iret F dX11_station_8
theorem vm_X0_isStation {w : Wd} {l : Launch} {d m : Dt} {a1 : Int} (hp : PB m 1 0) : VM w l WF yX0_isStation cX0_isStation 2 (some .boolean) 1 22 0 0 d m [mA 1, mI a1] (some (mI (fX0_isStation d a1))) d m := by
  obtain ⟨r, hr⟩ : ∃ r, fX0_isStation d a1 = r := ⟨_, rfl⟩
  rw [hr]
  obtain ⟨x, h, K⟩ : ∃ x, fX0_isStation d a1 = x ∧ x = r := ⟨_, hr, rfl⟩
  refine VM.of (L := [mA 1, mI a1]) (by decide +kernel) rfl (Nat.le_of_ble_eq_true rfl) fun G F _ => v_fact fun _ hX _ _ => ?_
  unfold fX0_isStation at h
  refine v_iload_n F dX0_isStation_0 rfl rfl ?_
  refine v_iconst F dX0_isStation_1 ⟨by decide, by decide⟩ ?_
  refine v_aload_n F dX0_isStation_2 rfl rfl ?_
  refine gf_X0_274 F dX0_isStation_3 hp ?_
  refine v_iconst F dX0_isStation_6 ⟨by decide, by decide⟩ ?_
  refine v_isub F dX0_isStation_7 ?_
  refine v_callSv F dX0_isStation_8 cs_X0_163 rfl (vm_X0_within) rfl (rOk.of rfl) ?_
  subst h
  cases (show _ = r from K)
  exact v_zret F (fX0_within_z) dX0_isStation_11
theorem fX0_isStation_z {d : Dt} {a1 : Int} : fX0_isStation d a1 = 0 ∨ fX0_isStation d a1 = 1 := by
  unfold fX0_isStation
  repeat' (first | exact Or.inl rfl | exact Or.inr rfl | split | assumption | exact fX0_within_z)
theorem vm_X0_clock {w : Wd} {l : Launch} {d m : Dt} {a1 a2 : Int} {d' : Dt} {r : Int} (hp : PB m 1 0) (h : fX0_clock d a1 a2 = some (d', r)) : VM w l WF yX0_clock cX0_clock 4 (some .int) 4 115 0 0 d m [mA 1, mI a1, mI a2] (some (mI r)) d' m := by
  obtain ⟨x, h, K⟩ : ∃ x, fX0_clock d a1 a2 = some x ∧ x = (d', r) := ⟨_, h, rfl⟩
  refine VM.of (L := [mA 1, mI a1, mI a2, mU]) (by decide +kernel) rfl (Nat.le_of_ble_eq_true rfl) fun G F _ => v_fact fun _ hX _ _ => ?_
  unfold fX0_clock at h
  refine v_aload_n F dX0_clock_0 rfl rfl ?_
  refine v_iload_n F dX0_clock_1 rfl rfl ?_
  refine v_callVv (c := 0) F dX0_clock_2 cv_X0_430 rfl (PB.ob hp hX (Nat.le_of_ble_eq_true rfl)) (Nat.le_of_ble_eq_true rfl) rfl (vm_X0_isStation hp) rfl (rOk.of rfl) ?_
  refine v_if_ne F dX0_clock_5 rfl (fun hq1 => ?_) (fun hq1 => ?_)
  · rw [if_neg hq1] at h
    refine v_iload_n F dX0_clock_10 rfl rfl ?_
    refine v_iconst F dX0_clock_11 ⟨by decide, by decide⟩ ?_
    refine v_bipush F dX0_clock_12 rfl ⟨by decide, by decide⟩ ?_
    refine v_callSv F dX0_clock_14 cs_X0_163 rfl (vm_X0_within) rfl (rOk.of rfl) ?_
    refine v_if_ne F dX0_clock_17 rfl (fun hq2 => ?_) (fun hq2 => ?_)
    · rw [if_neg hq2] at h
      refine v_aload_n F dX0_clock_23 rfl rfl ?_
      refine gf_X0_98 F dX0_clock_24 hp (v := 67) rfl ?_
      refine v_iload_n F dX0_clock_27 rfl rfl ?_
      obtain ⟨hi3, h⟩ := ck_some h
      refine v_iald F dX0_clock_28 (ar_X0_27 hX hp) hi3 ?_
      obtain ⟨x4, ex4, h⟩ := lv_some h
      refine v_nI ex4 ?_
      refine v_istore_n F dX0_clock_29 rfl (Nat.le_of_ble_eq_true rfl) (L' := [mA 1, mI a1, mI a2, mI x4]) rfl ?_
      refine v_aload_n F dX0_clock_30 rfl rfl ?_
      refine gf_X0_98 F dX0_clock_31 hp (v := 67) rfl ?_
      refine v_iload_n F dX0_clock_34 rfl rfl ?_
      refine v_iload_n F dX0_clock_35 rfl rfl ?_
      obtain ⟨d5, ed5, h⟩ := sd_some h
      refine v_iast F dX0_clock_36 (ar_X0_27 hX hp) hi3 ?_
      refine v_nD ed5 ?_
      refine v_aload_n F dX0_clock_37 rfl rfl ?_
      refine v_bipush F dX0_clock_38 rfl ⟨by decide, by decide⟩ ?_
      refine v_iload_n F dX0_clock_40 rfl rfl ?_
      refine v_iload_n F dX0_clock_41 rfl rfl ?_
      refine v_iconst F dX0_clock_42 ⟨by decide, by decide⟩ ?_
      refine v_iconst F dX0_clock_43 ⟨by decide, by decide⟩ ?_
      obtain ⟨d6, hc7, h⟩ := bd_some h
      refine v_callV0 (c := 0) F dX0_clock_44 cv_X0_173 rfl (PB.ob hp hX (Nat.le_of_ble_eq_true rfl)) (Nat.le_of_ble_eq_true rfl) rfl (vm_X0_write hp hc7) rfl (rOk.of rfl) ?_
      refine v_iload_n F dX0_clock_47 rfl rfl ?_
      cases h
      cases (show _ = (d', r) from K)
      exact v_iret F dX0_clock_48
    · rw [if_pos hq2] at h
      refine v_bipush F dX0_clock_20 rfl ⟨by decide, by decide⟩ ?_
      cases h
      cases (show _ = (d', r) from K)
      exact v_iret F dX0_clock_22
  · rw [if_pos hq1] at h
    refine v_iconst F dX0_clock_8 ⟨by decide, by decide⟩ ?_
    cases h
    cases (show _ = (d', r) from K)
    exact v_iret F dX0_clock_9
theorem vm_X11_isStation {w : Wd} {l : Launch} {d m : Dt} {a1 : Int} (hp : PB m 1545 11) : VM w l WF yX11_isStation cX11_isStation 2 (some .boolean) 1 25 0 0 d m [mA 1545, mI a1] (some (mI (fX11_isStation d a1))) d m := by
  obtain ⟨r, hr⟩ : ∃ r, fX11_isStation d a1 = r := ⟨_, rfl⟩
  rw [hr]
  obtain ⟨x, h, K⟩ : ∃ x, fX11_isStation d a1 = x ∧ x = r := ⟨_, hr, rfl⟩
  refine VM.of (L := [mA 1545, mI a1]) (by decide +kernel) rfl (Nat.le_of_ble_eq_true rfl) fun G F _ => v_fact fun _ hX _ _ => ?_
  unfold fX11_isStation at h
  refine v_iload_n F dX11_isStation_0 rfl rfl ?_
  refine v_i2l F dX11_isStation_1 ?_
  refine v_lconst0 F dX11_isStation_2 ?_
  refine v_aload_n F dX11_isStation_3 rfl rfl ?_
  refine gf_X11_540 F dX11_isStation_4 hp ?_
  refine v_iconst F dX11_isStation_7 ⟨by decide, by decide⟩ ?_
  refine v_isub F dX11_isStation_8 ?_
  refine v_i2l F dX11_isStation_9 ?_
  refine v_callSv F dX11_isStation_10 cs_X11_13 rfl (vm_X11_in) rfl (rOk.of rfl) ?_
  subst h
  cases (show _ = r from K)
  exact v_zret F (fX11_in_z) dX11_isStation_13
theorem fX11_isStation_z {d : Dt} {a1 : Int} : fX11_isStation d a1 = 0 ∨ fX11_isStation d a1 = 1 := by
  unfold fX11_isStation
  repeat' (first | exact Or.inl rfl | exact Or.inr rfl | split | assumption | exact fX11_in_z)
theorem vm_X11_clock {w : Wd} {l : Launch} {d m : Dt} {a1 a2 : Int} {d' : Dt} {r : Int} (hp : PB m 1545 11) (h : fX11_clock d a1 a2 = some (d', r)) : VM w l WF yX11_clock cX11_clock 4 (some .int) 3 73 0 0 d m [mA 1545, mI a1, mI a2] (some (mI r)) d' m := by
  obtain ⟨x, h, K⟩ : ∃ x, fX11_clock d a1 a2 = some x ∧ x = (d', r) := ⟨_, h, rfl⟩
  refine VM.of (L := [mA 1545, mI a1, mI a2, mU]) (by decide +kernel) rfl (Nat.le_of_ble_eq_true rfl) fun G F _ => v_fact fun _ hX _ _ => ?_
  unfold fX11_clock at h
  refine v_aload_n F dX11_clock_0 rfl rfl ?_
  refine v_iload_n F dX11_clock_1 rfl rfl ?_
  refine v_callVv (c := 11) F dX11_clock_2 cv_X11_655 rfl (PB.ob hp hX (Nat.le_of_ble_eq_true rfl)) (Nat.le_of_ble_eq_true rfl) rfl (vm_X11_isStation hp) rfl (rOk.of rfl) ?_
  refine v_if_ne F dX11_clock_5 rfl (fun hq1 => ?_) (fun hq1 => ?_)
  · rw [if_neg hq1] at h
    refine v_iload_n F dX11_clock_10 rfl rfl ?_
    refine v_i2l F dX11_clock_11 ?_
    refine v_lconst0 F dX11_clock_12 ?_
    refine v_ldc2 (n := 9) F dX11_clock_13 q2497 rfl ⟨by decide, by decide⟩ ?_
    refine v_callSv F dX11_clock_16 cs_X11_13 rfl (vm_X11_in) rfl (rOk.of rfl) ?_
    refine v_if_ne F dX11_clock_19 rfl (fun hq2 => ?_) (fun hq2 => ?_)
    · rw [if_neg hq2] at h
      refine v_aload_n F dX11_clock_25 rfl rfl ?_
      refine gf_X11_649 F dX11_clock_26 hp (v := 1601) rfl ?_
      refine v_iload_n F dX11_clock_29 rfl rfl ?_
      obtain ⟨hi3, h⟩ := ck_some h
      refine v_iald F dX11_clock_30 (ar_X11_80 hX hp) hi3 ?_
      obtain ⟨x4, ex4, h⟩ := lv_some h
      refine v_nI ex4 ?_
      refine v_istore_n F dX11_clock_31 rfl (Nat.le_of_ble_eq_true rfl) (L' := [mA 1545, mI a1, mI a2, mI x4]) rfl ?_
      refine v_aload_n F dX11_clock_32 rfl rfl ?_
      refine gf_X11_649 F dX11_clock_33 hp (v := 1601) rfl ?_
      refine v_iload_n F dX11_clock_36 rfl rfl ?_
      refine v_iload_n F dX11_clock_37 rfl rfl ?_
      obtain ⟨d5, ed5, h⟩ := sd_some h
      refine v_iast F dX11_clock_38 (ar_X11_80 hX hp) hi3 ?_
      refine v_nD ed5 ?_
      refine v_aload_n F dX11_clock_39 rfl rfl ?_
      refine v_bipush F dX11_clock_40 rfl ⟨by decide, by decide⟩ ?_
      refine v_iload_n F dX11_clock_42 rfl rfl ?_
      refine v_iload_n F dX11_clock_43 rfl rfl ?_
      refine v_iconst F dX11_clock_44 ⟨by decide, by decide⟩ ?_
      refine v_iconst F dX11_clock_45 ⟨by decide, by decide⟩ ?_
      obtain ⟨d6, hc7, h⟩ := bd_some h
      refine v_callV0 (c := 11) F dX11_clock_46 cv_X11_22 rfl (PB.ob hp hX (Nat.le_of_ble_eq_true rfl)) (Nat.le_of_ble_eq_true rfl) rfl (vm_X11_write hp hc7) rfl (rOk.of rfl) ?_
      refine v_iload_n F dX11_clock_49 rfl rfl ?_
      cases h
      cases (show _ = (d', r) from K)
      exact v_iret F dX11_clock_50
    · rw [if_pos hq2] at h
      refine v_bipush F dX11_clock_22 rfl ⟨by decide, by decide⟩ ?_
      cases h
      cases (show _ = (d', r) from K)
      exact v_iret F dX11_clock_24
  · rw [if_pos hq1] at h
    refine v_iconst F dX11_clock_8 ⟨by decide, by decide⟩ ?_
    cases h
    cases (show _ = (d', r) from K)
    exact v_iret F dX11_clock_9
theorem vm_X0_knownTo {w : Wd} {l : Launch} {d m : Dt} {a1 a2 : Int} {r : Int} (hp : PB m 1 0) (h : fX0_knownTo d a1 a2 = some r) : VM w l WF yX0_knownTo cX0_knownTo 4 (some .int) 0 0 0 0 d m [mA 1, mI a1, mI a2] (some (mI r)) d m := by
  obtain ⟨x, h, K⟩ : ∃ x, fX0_knownTo d a1 a2 = some x ∧ x = r := ⟨_, h, rfl⟩
  refine VM.of (L := [mA 1, mI a1, mI a2, mU]) (by decide +kernel) rfl (Nat.le_of_ble_eq_true rfl) fun G F _ => v_fact fun _ hX _ _ => ?_
  unfold fX0_knownTo at h
  refine v_aload_n F dX0_knownTo_0 rfl rfl ?_
  refine gf_X0_111 F dX0_knownTo_1 hp (v := 76) rfl ?_
  refine v_iload_n F dX0_knownTo_4 rfl rfl ?_
  obtain ⟨hi1, h⟩ := ck_some h
  obtain ⟨x2, ex2, h⟩ := lv_some h
  obtain ⟨hn4, h⟩ := ck_some h
  refine v_aaldN (t := 112) (c := 14) F dX0_knownTo_5 (ar_X0_31 hX hp) (Nat.le_of_ble_eq_true rfl) rfl rfl rfl rfl rfl hi1 ex2 fun hr3 => ?_
  have x2p := hr3.resolve_left hn4
  refine v_astore_n F dX0_knownTo_6 rfl (Nat.le_of_ble_eq_true rfl) (L' := [mA 1, mI a1, mI a2, mA x2]) rfl ?_
  refine v_aload_n F dX0_knownTo_7 rfl rfl ?_
  refine gf_X0_442 F dX0_knownTo_8 x2p ?_
  refine v_iload_n F dX0_knownTo_11 rfl rfl ?_
  refine v_icmp_ne F dX0_knownTo_12 rfl (fun hq5 => ?_) (fun hq5 => ?_)
  · rw [if_neg hq5] at h
    refine v_aload_n F dX0_knownTo_20 rfl rfl ?_
    refine gf_X0_101 F dX0_knownTo_21 hp (v := 68) rfl ?_
    refine v_iload_n F dX0_knownTo_24 rfl rfl ?_
    obtain ⟨hi6, h⟩ := ck_some h
    refine v_zald F dX0_knownTo_25 (ar_X0_28 hX hp) hi6 ?_
    refine v_if_eq F dX0_knownTo_26 rfl (fun hq7 => ?_) (fun hq7 => ?_)
    · rw [if_pos hq7] at h
      refine v_aload_n F dX0_knownTo_40 rfl rfl ?_
      refine gf_X0_446 F dX0_knownTo_41 x2p ?_
      refine v_if_eq F dX0_knownTo_44 rfl (fun hq8 => ?_) (fun hq8 => ?_)
      · rw [if_pos hq8] at h
        refine v_iconst F dX0_knownTo_54 ⟨by decide, by decide⟩ ?_
        cases h
        cases (show _ = r from K)
        exact v_iret F dX0_knownTo_55
      · rw [if_neg hq8] at h
        refine v_aload_n F dX0_knownTo_47 rfl rfl ?_
        refine gf_X0_445 F dX0_knownTo_48 x2p ?_
        refine v_goto F dX0_knownTo_51 rfl ?_
        cases h
        cases (show _ = r from K)
        exact v_iret F dX0_knownTo_55
    · rw [if_neg hq7] at h
      refine v_aload_n F dX0_knownTo_29 rfl rfl ?_
      refine gf_X0_106 F dX0_knownTo_30 hp (v := 69) rfl ?_
      refine v_iload_n F dX0_knownTo_33 rfl rfl ?_
      refine v_aaldF (c := 0) (k := 29) F dX0_knownTo_34 hp (Nat.le_of_ble_eq_true rfl) (Nat.le_of_ble_eq_true rfl) (by decide) (by decide) rfl (ar_X0_29 hX hp) (Nat.le_of_ble_eq_true rfl) rfl rfl rfl rfl hi6 (v := (70 + a1)) (by show 1 + 69 + 1 * a1 = _; omega) ?_
      refine v_iload_n F dX0_knownTo_35 rfl rfl ?_
      refine v_bald F dX0_knownTo_36 (ae_X0_29 (i := a1) hX hp hi6 (v := (70 + a1)) (by omega)) hi1 ?_
      refine v_goto F dX0_knownTo_37 rfl ?_
      cases h
      cases (show _ = r from K)
      exact v_iret F dX0_knownTo_55
  · rw [if_pos hq5] at h
    refine v_aload_n F dX0_knownTo_15 rfl rfl ?_
    refine gf_X0_445 F dX0_knownTo_16 x2p ?_
    cases h
    cases (show _ = r from K)
    exact v_iret F dX0_knownTo_19
def fX0_cutLine_39P (w : Wd) (l : Launch) (G : Cx) (Q : State → Prop) (m : Dt) (a1 : Int) (s : Dt × Int) : Prop := V w l WF G Q s.1 m 0 0 39 [mA 1, mI a1, mI (s.2)] []
def fX0_cutLine_73P (w : Wd) (l : Launch) (G : Cx) (Q : State → Prop) (m : Dt) (a1 : Int) (s : Dt × Int) : Prop := V w l WF G Q s.1 m 0 0 73 [mA 1, mI a1, mI (s.2)] []
theorem fX0_cutLine_73f_ok {w : Wd} {l : Launch} {G : Cx} {m dd : Dt} {a1 : Int} {d' : Dt} {r : Int} {s : Dt × Int} {x : ((Dt × Int) ⊕ (Dt × Int))} (F : Fx w G cX0_cutLine RX0 3 (some .int) { frames := 4, cells := 0, slots := 0, locals := 115 }) (hX : WF dd m) (hp : PB m 1 0) (h : fX0_cutLine_73f a1 s = some x) (K : (Sum.elim (fX0_cutLine_73P w l G (QM w G WF (some (mI r)) d' m 0 0) m a1) (fun q => q = (d', r))) x) : V w l WF G (QM w G WF (some (mI r)) d' m 0 0) s.1 m 0 0 73 [mA 1, mI a1, mI (s.2)] [] := by
  obtain ⟨d, v2⟩ := s
  unfold fX0_cutLine_73f at h
  dsimp only at h
  refine v_iload_n F dX0_cutLine_73 rfl rfl ?_
  refine v_sipush F dX0_cutLine_74 rfl ⟨by decide, by decide⟩ ?_
  refine v_icmp_ge F dX0_cutLine_77 rfl (fun hq8 => ?_) (fun hq8 => ?_)
  · rw [if_pos hq8] at h
    obtain ⟨z, hu, ez⟩ := up_some h
    clear h
    subst ez
    have h := hu
    clear hu
    refine v_aload_n F dX0_cutLine_95 rfl rfl ?_
    refine gf_X0_101 F dX0_cutLine_96 hp (v := 68) rfl ?_
    refine v_iload_n F dX0_cutLine_99 rfl rfl ?_
    refine v_iconst F dX0_cutLine_100 ⟨by decide, by decide⟩ ?_
    obtain ⟨hi9, h⟩ := ck_some h
    obtain ⟨d10, ed10, h⟩ := sd_some h
    refine v_zast F dX0_cutLine_101 (ar_X0_28 hX hp) hi9 ?_
    refine v_nD ed10 ?_
    refine v_aload_n F dX0_cutLine_102 rfl rfl ?_
    refine v_bipush F dX0_cutLine_103 rfl ⟨by decide, by decide⟩ ?_
    refine v_iload_n F dX0_cutLine_105 rfl rfl ?_
    refine v_iconst F dX0_cutLine_106 ⟨by decide, by decide⟩ ?_
    refine v_iconst F dX0_cutLine_107 ⟨by decide, by decide⟩ ?_
    refine v_iconst F dX0_cutLine_108 ⟨by decide, by decide⟩ ?_
    obtain ⟨d11, hc12, h⟩ := bd_some h
    refine v_callV0 (c := 0) F dX0_cutLine_109 cv_X0_173 rfl (PB.ob hp hX (Nat.le_of_ble_eq_true rfl)) (Nat.le_of_ble_eq_true rfl) rfl (vm_X0_write hp hc12) rfl (rOk.of rfl) ?_
    refine v_iconst F dX0_cutLine_112 ⟨by decide, by decide⟩ ?_
    cases h
    cases (show _ = (d', r) from K)
    exact v_iret F dX0_cutLine_113
  · rw [if_neg hq8] at h
    refine v_aload_n F dX0_cutLine_80 rfl rfl ?_
    refine gf_X0_106 F dX0_cutLine_81 hp (v := 69) rfl ?_
    refine v_iload_n F dX0_cutLine_84 rfl rfl ?_
    obtain ⟨hi13, h⟩ := ck_some h
    refine v_aaldF (c := 0) (k := 29) F dX0_cutLine_85 hp (Nat.le_of_ble_eq_true rfl) (Nat.le_of_ble_eq_true rfl) (by decide) (by decide) rfl (ar_X0_29 hX hp) (Nat.le_of_ble_eq_true rfl) rfl rfl rfl rfl hi13 (v := (70 + a1)) (by show 1 + 69 + 1 * a1 = _; omega) ?_
    refine v_iload_n F dX0_cutLine_86 rfl rfl ?_
    refine v_iconst F dX0_cutLine_87 ⟨by decide, by decide⟩ ?_
    obtain ⟨hi14, h⟩ := ck_some h
    obtain ⟨d15, ed15, h⟩ := sd_some h
    refine v_bast F dX0_cutLine_88 (ae_X0_29 (i := a1) hX hp hi13 (v := (70 + a1)) (by omega)) hi14 ?_
    refine v_nD ed15 ?_
    obtain ⟨x16, ex16, h⟩ := lv_some h
    refine v_iincN F dX0_cutLine_89 (Nat.le_of_ble_eq_true rfl) rfl ex16 (L' := [mA 1, mI a1, mI x16]) rfl ?_
    refine v_goto F dX0_cutLine_92 rfl ?_
    cases h
    exact K
theorem fX0_cutLine_73_ok {w : Wd} {l : Launch} {G : Cx} {d m dd : Dt} {a1 v2 : Int} {d' : Dt} {r : Int} {x : (Dt × Int)} (F : Fx w G cX0_cutLine RX0 3 (some .int) { frames := 4, cells := 0, slots := 0, locals := 115 }) (hX : WF dd m) (hp : PB m 1 0) (h : fX0_cutLine_73 d a1 v2 = some x) (K : (fun q => q = (d', r)) x) : V w l WF G (QM w G WF (some (mI r)) d' m 0 0) d m 0 0 73 [mA 1, mI a1, mI v2] [] := by
  unfold fX0_cutLine_73 at h
  exact loop_ok (P := fX0_cutLine_73P w l G (QM w G WF (some (mI r)) d' m 0 0) m a1) (fun s x hx h1 h2 => fX0_cutLine_73f_ok F hX hp hx (by
    cases x with
    | inl s' => exact h1 s' rfl
    | inr z => cases h2 z rfl; exact K)) h
theorem fX0_cutLine_39f_ok {w : Wd} {l : Launch} {G : Cx} {m dd : Dt} {a1 : Int} {d' : Dt} {r : Int} {s : Dt × Int} {x : ((Dt × Int) ⊕ (Dt × Int))} (F : Fx w G cX0_cutLine RX0 3 (some .int) { frames := 4, cells := 0, slots := 0, locals := 115 }) (hX : WF dd m) (hp : PB m 1 0) (h : fX0_cutLine_39f a1 s = some x) (K : (Sum.elim (fX0_cutLine_39P w l G (QM w G WF (some (mI r)) d' m 0 0) m a1) (fun q => q = (d', r))) x) : V w l WF G (QM w G WF (some (mI r)) d' m 0 0) s.1 m 0 0 39 [mA 1, mI a1, mI (s.2)] [] := by
  obtain ⟨d, v2⟩ := s
  unfold fX0_cutLine_39f at h
  dsimp only at h
  refine v_iload_n F dX0_cutLine_39 rfl rfl ?_
  refine v_aload_n F dX0_cutLine_40 rfl rfl ?_
  refine gf_X0_277 F dX0_cutLine_41 hp ?_
  refine v_icmp_ge F dX0_cutLine_44 rfl (fun hq6 => ?_) (fun hq6 => ?_)
  · rw [if_pos hq6] at h
    obtain ⟨z, hu, ez⟩ := up_some h
    clear h
    subst ez
    have h := hu
    clear hu
    refine v_aload_n F dX0_cutLine_68 rfl rfl ?_
    refine gf_X0_277 F dX0_cutLine_69 hp ?_
    obtain ⟨x7, ex7, h⟩ := lv_some h
    refine v_nI ex7 ?_
    refine v_istore_n F dX0_cutLine_72 rfl (Nat.le_of_ble_eq_true rfl) (L' := [mA 1, mI a1, mI x7]) rfl ?_
    exact fX0_cutLine_73_ok F hX hp h K
  · rw [if_neg hq6] at h
    refine v_aload_n F dX0_cutLine_47 rfl rfl ?_
    refine gf_X0_106 F dX0_cutLine_48 hp (v := 69) rfl ?_
    refine v_iload_n F dX0_cutLine_51 rfl rfl ?_
    obtain ⟨hi17, h⟩ := ck_some h
    refine v_aaldF (c := 0) (k := 29) F dX0_cutLine_52 hp (Nat.le_of_ble_eq_true rfl) (Nat.le_of_ble_eq_true rfl) (by decide) (by decide) rfl (ar_X0_29 hX hp) (Nat.le_of_ble_eq_true rfl) rfl rfl rfl rfl hi17 (v := (70 + a1)) (by show 1 + 69 + 1 * a1 = _; omega) ?_
    refine v_iload_n F dX0_cutLine_53 rfl rfl ?_
    refine v_aload_n F dX0_cutLine_54 rfl rfl ?_
    refine v_iload_n F dX0_cutLine_55 rfl rfl ?_
    refine v_iload_n F dX0_cutLine_56 rfl rfl ?_
    obtain ⟨x18, hc19, h⟩ := b1_some h
    refine v_callVv (c := 0) F dX0_cutLine_57 cv_X0_439 rfl (PB.ob hp hX (Nat.le_of_ble_eq_true rfl)) (Nat.le_of_ble_eq_true rfl) rfl (vm_X0_knownTo hp hc19) rfl (rOk.of rfl) ?_
    refine v_i2b F dX0_cutLine_60 ?_
    obtain ⟨hi20, h⟩ := ck_some h
    obtain ⟨d21, ed21, h⟩ := sd_some h
    refine v_bast F dX0_cutLine_61 (ae_X0_29 (i := a1) hX hp hi17 (v := (70 + a1)) (by omega)) hi20 ?_
    refine v_nD ed21 ?_
    obtain ⟨x22, ex22, h⟩ := lv_some h
    refine v_iincN F dX0_cutLine_62 (Nat.le_of_ble_eq_true rfl) rfl ex22 (L' := [mA 1, mI a1, mI x22]) rfl ?_
    refine v_goto F dX0_cutLine_65 rfl ?_
    cases h
    exact K
theorem fX0_cutLine_39_ok {w : Wd} {l : Launch} {G : Cx} {d m dd : Dt} {a1 v2 : Int} {d' : Dt} {r : Int} {x : (Dt × Int)} (F : Fx w G cX0_cutLine RX0 3 (some .int) { frames := 4, cells := 0, slots := 0, locals := 115 }) (hX : WF dd m) (hp : PB m 1 0) (h : fX0_cutLine_39 d a1 v2 = some x) (K : (fun q => q = (d', r)) x) : V w l WF G (QM w G WF (some (mI r)) d' m 0 0) d m 0 0 39 [mA 1, mI a1, mI v2] [] := by
  unfold fX0_cutLine_39 at h
  exact loop_ok (P := fX0_cutLine_39P w l G (QM w G WF (some (mI r)) d' m 0 0) m a1) (fun s x hx h1 h2 => fX0_cutLine_39f_ok F hX hp hx (by
    cases x with
    | inl s' => exact h1 s' rfl
    | inr z => cases h2 z rfl; exact K)) h
theorem vm_X0_cutLine {w : Wd} {l : Launch} {d m : Dt} {a1 : Int} {d' : Dt} {r : Int} (hp : PB m 1 0) (h : fX0_cutLine d a1 = some (d', r)) : VM w l WF yX0_cutLine cX0_cutLine 3 (some .int) 4 115 0 0 d m [mA 1, mI a1] (some (mI r)) d' m := by
  obtain ⟨x, h, K⟩ : ∃ x, fX0_cutLine d a1 = some x ∧ x = (d', r) := ⟨_, h, rfl⟩
  refine VM.of (L := [mA 1, mI a1, mU]) (by decide +kernel) rfl (Nat.le_of_ble_eq_true rfl) fun G F _ => v_fact fun _ hX _ _ => ?_
  unfold fX0_cutLine at h
  refine v_aload_n F dX0_cutLine_0 rfl rfl ?_
  refine v_iload_n F dX0_cutLine_1 rfl rfl ?_
  refine v_callVv (c := 0) F dX0_cutLine_2 cv_X0_430 rfl (PB.ob hp hX (Nat.le_of_ble_eq_true rfl)) (Nat.le_of_ble_eq_true rfl) rfl (vm_X0_isStation hp) rfl (rOk.of rfl) ?_
  refine v_if_ne F dX0_cutLine_5 rfl (fun hq1 => ?_) (fun hq1 => ?_)
  · rw [if_neg hq1] at h
    refine v_aload_n F dX0_cutLine_10 rfl rfl ?_
    refine gf_X0_120 F dX0_cutLine_11 hp (v := 78) rfl ?_
    refine v_iload_n F dX0_cutLine_14 rfl rfl ?_
    obtain ⟨hi2, h⟩ := ck_some h
    refine v_aaldF (c := 0) (k := 34) F dX0_cutLine_15 hp (Nat.le_of_ble_eq_true rfl) (Nat.le_of_ble_eq_true rfl) (by decide) (by decide) rfl (ar_X0_34 hX hp) (Nat.le_of_ble_eq_true rfl) rfl rfl rfl rfl hi2 (v := (677 + 124 * a1)) (by show 1 + 676 + 124 * a1 = _; omega) ?_
    refine gf_X0_436 F dX0_cutLine_16 (ae_X0_34 (i := a1) hX hp hi2 (v := (677 + 124 * a1)) (by omega)) ?_
    refine v_if_eq F dX0_cutLine_19 rfl (fun hq3 => ?_) (fun hq3 => ?_)
    · rw [if_pos hq3] at h
      refine v_aload_n F dX0_cutLine_25 rfl rfl ?_
      refine gf_X0_101 F dX0_cutLine_26 hp (v := 68) rfl ?_
      refine v_iload_n F dX0_cutLine_29 rfl rfl ?_
      obtain ⟨hi4, h⟩ := ck_some h
      refine v_zald F dX0_cutLine_30 (ar_X0_28 hX hp) hi4 ?_
      refine v_if_eq F dX0_cutLine_31 rfl (fun hq5 => ?_) (fun hq5 => ?_)
      · rw [if_pos hq5] at h
        refine v_iconst F dX0_cutLine_37 ⟨by decide, by decide⟩ ?_
        refine v_istore_n F dX0_cutLine_38 rfl (Nat.le_of_ble_eq_true rfl) (L' := [mA 1, mI a1, mI 0]) rfl ?_
        exact fX0_cutLine_39_ok F hX hp h K
      · rw [if_neg hq5] at h
        refine v_bipush F dX0_cutLine_34 rfl ⟨by decide, by decide⟩ ?_
        cases h
        cases (show _ = (d', r) from K)
        exact v_iret F dX0_cutLine_36
    · rw [if_neg hq3] at h
      refine v_bipush F dX0_cutLine_22 rfl ⟨by decide, by decide⟩ ?_
      cases h
      cases (show _ = (d', r) from K)
      exact v_iret F dX0_cutLine_24
  · rw [if_pos hq1] at h
    refine v_iconst F dX0_cutLine_8 ⟨by decide, by decide⟩ ?_
    cases h
    cases (show _ = (d', r) from K)
    exact v_iret F dX0_cutLine_9
theorem vm_X11_known {w : Wd} {l : Launch} {d m : Dt} {a1 a2 : Int} {r : Int} (hp : PB m 1545 11) (h : fX11_known d a1 a2 = some r) : VM w l WF yX11_known cX11_known 3 (some .int) 0 0 0 0 d m [mA 1545, mI a1, mI a2] (some (mI r)) d m := by
  obtain ⟨x, h, K⟩ : ∃ x, fX11_known d a1 a2 = some x ∧ x = r := ⟨_, h, rfl⟩
  refine VM.of (L := [mA 1545, mI a1, mI a2]) (by decide +kernel) rfl (Nat.le_of_ble_eq_true rfl) fun G F _ => v_fact fun _ hX _ _ => ?_
  unfold fX11_known at h
  refine v_aload_n F dX11_known_0 rfl rfl ?_
  refine gf_X11_661 F dX11_known_1 hp (v := 1604) rfl ?_
  refine v_iload_n F dX11_known_4 rfl rfl ?_
  obtain ⟨hi1, h⟩ := ck_some h
  refine v_iald F dX11_known_5 (ar_X11_84 hX hp) hi1 ?_
  refine v_iload_n F dX11_known_6 rfl rfl ?_
  refine v_icmp_ne F dX11_known_7 rfl (fun hq2 => ?_) (fun hq2 => ?_)
  · rw [if_neg hq2] at h
    refine v_aload_n F dX11_known_17 rfl rfl ?_
    refine gf_X11_652 F dX11_known_18 hp (v := 1602) rfl ?_
    refine v_iload_n F dX11_known_21 rfl rfl ?_
    obtain ⟨hi3, h⟩ := ck_some h
    refine v_zald F dX11_known_22 (ar_X11_81 hX hp) hi3 ?_
    refine v_if_eq F dX11_known_23 rfl (fun hq4 => ?_) (fun hq4 => ?_)
    · rw [if_pos hq4] at h
      refine v_aload_n F dX11_known_39 rfl rfl ?_
      refine gf_X11_667 F dX11_known_40 hp (v := 1607) rfl ?_
      refine v_iload_n F dX11_known_43 rfl rfl ?_
      refine v_zald F dX11_known_44 (ar_X11_87 hX hp) hi1 ?_
      refine v_if_eq F dX11_known_45 rfl (fun hq5 => ?_) (fun hq5 => ?_)
      · rw [if_pos hq5] at h
        refine v_iconst F dX11_known_57 ⟨by decide, by decide⟩ ?_
        cases h
        cases (show _ = r from K)
        exact v_iret F dX11_known_58
      · rw [if_neg hq5] at h
        refine v_aload_n F dX11_known_48 rfl rfl ?_
        refine gf_X11_658 F dX11_known_49 hp (v := 1605) rfl ?_
        refine v_iload_n F dX11_known_52 rfl rfl ?_
        refine v_iald F dX11_known_53 (ar_X11_85 hX hp) hi1 ?_
        refine v_goto F dX11_known_54 rfl ?_
        cases h
        cases (show _ = r from K)
        exact v_iret F dX11_known_58
    · rw [if_neg hq4] at h
      refine v_aload_n F dX11_known_26 rfl rfl ?_
      refine gf_X11_664 F dX11_known_27 hp (v := 1609) rfl ?_
      refine v_sipush F dX11_known_30 rfl ⟨by decide, by decide⟩ ?_
      refine v_iload_n F dX11_known_33 rfl rfl ?_
      refine v_imul F dX11_known_34 ?_
      refine v_iload_n F dX11_known_35 rfl rfl ?_
      refine v_iadd F dX11_known_36 ?_
      obtain ⟨x6, ex6, h⟩ := lv_some h
      refine v_nI ex6 ?_
      obtain ⟨hi7, h⟩ := ck_some h
      refine v_iald F dX11_known_37 (ar_X11_89 hX hp) hi7 ?_
      cases h
      cases (show _ = r from K)
      exact v_iret F dX11_known_38
  · rw [if_pos hq2] at h
    refine v_aload_n F dX11_known_10 rfl rfl ?_
    refine gf_X11_658 F dX11_known_11 hp (v := 1605) rfl ?_
    refine v_iload_n F dX11_known_14 rfl rfl ?_
    refine v_iald F dX11_known_15 (ar_X11_85 hX hp) hi1 ?_
    cases h
    cases (show _ = r from K)
    exact v_iret F dX11_known_16
def fX11_cutLine_36P (w : Wd) (l : Launch) (G : Cx) (Q : State → Prop) (m : Dt) (a1 : Int) (s : Dt × Int) : Prop := V w l WF G Q s.1 m 0 0 36 [mA 1545, mI a1, mI (s.2)] []
theorem fX11_cutLine_36f_ok {w : Wd} {l : Launch} {G : Cx} {m dd : Dt} {a1 : Int} {d' : Dt} {r : Int} {s : Dt × Int} {x : ((Dt × Int) ⊕ (Dt × Int))} (F : Fx w G cX11_cutLine RX11 3 (some .int) { frames := 3, cells := 0, slots := 0, locals := 73 }) (hX : WF dd m) (hp : PB m 1545 11) (h : fX11_cutLine_36f a1 s = some x) (K : (Sum.elim (fX11_cutLine_36P w l G (QM w G WF (some (mI r)) d' m 0 0) m a1) (fun q => q = (d', r))) x) : V w l WF G (QM w G WF (some (mI r)) d' m 0 0) s.1 m 0 0 36 [mA 1545, mI a1, mI (s.2)] [] := by
  obtain ⟨d, v2⟩ := s
  unfold fX11_cutLine_36f at h
  dsimp only at h
  refine v_iload_n F dX11_cutLine_36 rfl rfl ?_
  refine v_aload_n F dX11_cutLine_37 rfl rfl ?_
  refine gf_X11_543 F dX11_cutLine_38 hp ?_
  refine v_icmp_ge F dX11_cutLine_41 rfl (fun hq6 => ?_) (fun hq6 => ?_)
  · rw [if_pos hq6] at h
    obtain ⟨z, hu, ez⟩ := up_some h
    clear h
    subst ez
    have h := hu
    clear hu
    refine v_aload_n F dX11_cutLine_68 rfl rfl ?_
    refine gf_X11_652 F dX11_cutLine_69 hp (v := 1602) rfl ?_
    refine v_iload_n F dX11_cutLine_72 rfl rfl ?_
    refine v_iconst F dX11_cutLine_73 ⟨by decide, by decide⟩ ?_
    obtain ⟨hi7, h⟩ := ck_some h
    obtain ⟨d8, ed8, h⟩ := sd_some h
    refine v_zast F dX11_cutLine_74 (ar_X11_81 hX hp) hi7 ?_
    refine v_nD ed8 ?_
    refine v_aload_n F dX11_cutLine_75 rfl rfl ?_
    refine v_bipush F dX11_cutLine_76 rfl ⟨by decide, by decide⟩ ?_
    refine v_iload_n F dX11_cutLine_78 rfl rfl ?_
    refine v_iconst F dX11_cutLine_79 ⟨by decide, by decide⟩ ?_
    refine v_iconst F dX11_cutLine_80 ⟨by decide, by decide⟩ ?_
    refine v_iconst F dX11_cutLine_81 ⟨by decide, by decide⟩ ?_
    obtain ⟨d9, hc10, h⟩ := bd_some h
    refine v_callV0 (c := 11) F dX11_cutLine_82 cv_X11_22 rfl (PB.ob hp hX (Nat.le_of_ble_eq_true rfl)) (Nat.le_of_ble_eq_true rfl) rfl (vm_X11_write hp hc10) rfl (rOk.of rfl) ?_
    refine v_iconst F dX11_cutLine_85 ⟨by decide, by decide⟩ ?_
    cases h
    cases (show _ = (d', r) from K)
    exact v_iret F dX11_cutLine_86
  · rw [if_neg hq6] at h
    refine v_aload_n F dX11_cutLine_44 rfl rfl ?_
    refine gf_X11_664 F dX11_cutLine_45 hp (v := 1609) rfl ?_
    refine v_sipush F dX11_cutLine_48 rfl ⟨by decide, by decide⟩ ?_
    refine v_iload_n F dX11_cutLine_51 rfl rfl ?_
    refine v_imul F dX11_cutLine_52 ?_
    refine v_iload_n F dX11_cutLine_53 rfl rfl ?_
    refine v_iadd F dX11_cutLine_54 ?_
    refine v_aload_n F dX11_cutLine_55 rfl rfl ?_
    refine v_iload_n F dX11_cutLine_56 rfl rfl ?_
    refine v_iload_n F dX11_cutLine_57 rfl rfl ?_
    obtain ⟨x11, hc12, h⟩ := b1_some h
    refine v_callVv (c := 11) F dX11_cutLine_58 cv_X11_670 rfl (PB.ob hp hX (Nat.le_of_ble_eq_true rfl)) (Nat.le_of_ble_eq_true rfl) rfl (vm_X11_known hp hc12) rfl (rOk.of rfl) ?_
    obtain ⟨x13, ex13, h⟩ := lv_some h
    refine v_n2 ex13 ?_
    obtain ⟨hi14, h⟩ := ck_some h
    obtain ⟨d15, ed15, h⟩ := sd_some h
    refine v_iast F dX11_cutLine_61 (ar_X11_89 hX hp) hi14 ?_
    refine v_nD ed15 ?_
    obtain ⟨x16, ex16, h⟩ := lv_some h
    refine v_iincN F dX11_cutLine_62 (Nat.le_of_ble_eq_true rfl) rfl ex16 (L' := [mA 1545, mI a1, mI x16]) rfl ?_
    refine v_goto F dX11_cutLine_65 rfl ?_
    cases h
    exact K
theorem fX11_cutLine_36_ok {w : Wd} {l : Launch} {G : Cx} {d m dd : Dt} {a1 v2 : Int} {d' : Dt} {r : Int} {x : (Dt × Int)} (F : Fx w G cX11_cutLine RX11 3 (some .int) { frames := 3, cells := 0, slots := 0, locals := 73 }) (hX : WF dd m) (hp : PB m 1545 11) (h : fX11_cutLine_36 d a1 v2 = some x) (K : (fun q => q = (d', r)) x) : V w l WF G (QM w G WF (some (mI r)) d' m 0 0) d m 0 0 36 [mA 1545, mI a1, mI v2] [] := by
  unfold fX11_cutLine_36 at h
  exact loop_ok (P := fX11_cutLine_36P w l G (QM w G WF (some (mI r)) d' m 0 0) m a1) (fun s x hx h1 h2 => fX11_cutLine_36f_ok F hX hp hx (by
    cases x with
    | inl s' => exact h1 s' rfl
    | inr z => cases h2 z rfl; exact K)) h
theorem vm_X11_cutLine {w : Wd} {l : Launch} {d m : Dt} {a1 : Int} {d' : Dt} {r : Int} (hp : PB m 1545 11) (h : fX11_cutLine d a1 = some (d', r)) : VM w l WF yX11_cutLine cX11_cutLine 3 (some .int) 3 73 0 0 d m [mA 1545, mI a1] (some (mI r)) d' m := by
  obtain ⟨x, h, K⟩ : ∃ x, fX11_cutLine d a1 = some x ∧ x = (d', r) := ⟨_, h, rfl⟩
  refine VM.of (L := [mA 1545, mI a1, mU]) (by decide +kernel) rfl (Nat.le_of_ble_eq_true rfl) fun G F _ => v_fact fun _ hX _ _ => ?_
  unfold fX11_cutLine at h
  refine v_aload_n F dX11_cutLine_0 rfl rfl ?_
  refine v_iload_n F dX11_cutLine_1 rfl rfl ?_
  refine v_callVv (c := 11) F dX11_cutLine_2 cv_X11_655 rfl (PB.ob hp hX (Nat.le_of_ble_eq_true rfl)) (Nat.le_of_ble_eq_true rfl) rfl (vm_X11_isStation hp) rfl (rOk.of rfl) ?_
  refine v_if_ne F dX11_cutLine_5 rfl (fun hq1 => ?_) (fun hq1 => ?_)
  · rw [if_neg hq1] at h
    refine v_aload_n F dX11_cutLine_10 rfl rfl ?_
    refine gf_X11_552 F dX11_cutLine_11 hp (v := 1615) rfl ?_
    refine v_iload_n F dX11_cutLine_14 rfl rfl ?_
    obtain ⟨hi2, h⟩ := ck_some h
    refine v_zald F dX11_cutLine_15 (ar_X11_95 hX hp) hi2 ?_
    refine v_if_eq F dX11_cutLine_16 rfl (fun hq3 => ?_) (fun hq3 => ?_)
    · rw [if_pos hq3] at h
      refine v_aload_n F dX11_cutLine_22 rfl rfl ?_
      refine gf_X11_652 F dX11_cutLine_23 hp (v := 1602) rfl ?_
      refine v_iload_n F dX11_cutLine_26 rfl rfl ?_
      obtain ⟨hi4, h⟩ := ck_some h
      refine v_zald F dX11_cutLine_27 (ar_X11_81 hX hp) hi4 ?_
      refine v_if_eq F dX11_cutLine_28 rfl (fun hq5 => ?_) (fun hq5 => ?_)
      · rw [if_pos hq5] at h
        refine v_iconst F dX11_cutLine_34 ⟨by decide, by decide⟩ ?_
        refine v_istore_n F dX11_cutLine_35 rfl (Nat.le_of_ble_eq_true rfl) (L' := [mA 1545, mI a1, mI 0]) rfl ?_
        exact fX11_cutLine_36_ok F hX hp h K
      · rw [if_neg hq5] at h
        refine v_bipush F dX11_cutLine_31 rfl ⟨by decide, by decide⟩ ?_
        cases h
        cases (show _ = (d', r) from K)
        exact v_iret F dX11_cutLine_33
    · rw [if_neg hq3] at h
      refine v_bipush F dX11_cutLine_19 rfl ⟨by decide, by decide⟩ ?_
      cases h
      cases (show _ = (d', r) from K)
      exact v_iret F dX11_cutLine_21
  · rw [if_pos hq1] at h
    refine v_iconst F dX11_cutLine_8 ⟨by decide, by decide⟩ ?_
    cases h
    cases (show _ = (d', r) from K)
    exact v_iret F dX11_cutLine_9
theorem vm_X15_isBefore {w : Wd} {l : Launch} {d m : Dt} {o a1 : Int} (hp : PB m o 14) (hp1 : PB m a1 14) : VM w l WF yX15_isBefore cX15_isBefore 2 (some .boolean) 0 0 0 0 d m [mA o, mA a1] (some (mI (fX15_isBefore d o a1))) d m := by
  obtain ⟨r, hr⟩ : ∃ r, fX15_isBefore d o a1 = r := ⟨_, rfl⟩
  rw [hr]
  obtain ⟨x, h, K⟩ : ∃ x, fX15_isBefore d o a1 = x ∧ x = r := ⟨_, hr, rfl⟩
  refine VM.of (L := [mA o, mA a1]) (by decide +kernel) rfl (Nat.le_of_ble_eq_true rfl) fun G F _ => v_fact fun _ hX _ _ => ?_
  unfold fX15_isBefore at h
  refine v_aload_n F dX15_isBefore_0 rfl rfl ?_
  refine gf_X15_28 F dX15_isBefore_1 hp ?_
  refine v_aload_n F dX15_isBefore_4 rfl rfl ?_
  refine gf_X15_28 F dX15_isBefore_5 hp1 ?_
  refine v_icmp_eq F dX15_isBefore_8 rfl (fun hq1 => ?_) (fun hq1 => ?_)
  · rw [if_pos hq1] at h
    refine v_aload_n F dX15_isBefore_28 rfl rfl ?_
    refine gf_X15_22 F dX15_isBefore_29 hp ?_
    refine v_aload_n F dX15_isBefore_32 rfl rfl ?_
    refine gf_X15_22 F dX15_isBefore_33 hp1 ?_
    refine v_icmp_eq F dX15_isBefore_36 rfl (fun hq2 => ?_) (fun hq2 => ?_)
    · rw [if_pos hq2] at h
      refine v_aload_n F dX15_isBefore_58 rfl rfl ?_
      refine gf_X15_15 F dX15_isBefore_59 hp ?_
      refine v_aload_n F dX15_isBefore_62 rfl rfl ?_
      refine gf_X15_15 F dX15_isBefore_63 hp1 ?_
      refine v_icmp_ge F dX15_isBefore_66 rfl (fun hq3 => ?_) (fun hq3 => ?_)
      · rw [if_pos hq3] at h
        refine v_iconst F dX15_isBefore_73 ⟨by decide, by decide⟩ ?_
        subst h
        cases (show _ = r from K)
        exact v_zret F (Or.inl rfl) dX15_isBefore_74
      · rw [if_neg hq3] at h
        refine v_iconst F dX15_isBefore_69 ⟨by decide, by decide⟩ ?_
        refine v_goto F dX15_isBefore_70 rfl ?_
        subst h
        cases (show _ = r from K)
        exact v_zret F (Or.inr rfl) dX15_isBefore_74
    · rw [if_neg hq2] at h
      refine v_aload_n F dX15_isBefore_39 rfl rfl ?_
      refine gf_X15_22 F dX15_isBefore_40 hp ?_
      refine v_aload_n F dX15_isBefore_43 rfl rfl ?_
      refine gf_X15_22 F dX15_isBefore_44 hp1 ?_
      refine v_icmp_ge F dX15_isBefore_47 rfl (fun hq4 => ?_) (fun hq4 => ?_)
      · rw [if_pos hq4] at h
        refine v_iconst F dX15_isBefore_54 ⟨by decide, by decide⟩ ?_
        refine v_goto F dX15_isBefore_55 rfl ?_
        subst h
        cases (show _ = r from K)
        exact v_zret F (Or.inl rfl) dX15_isBefore_74
      · rw [if_neg hq4] at h
        refine v_iconst F dX15_isBefore_50 ⟨by decide, by decide⟩ ?_
        refine v_goto F dX15_isBefore_51 rfl ?_
        subst h
        cases (show _ = r from K)
        exact v_zret F (Or.inr rfl) dX15_isBefore_74
  · rw [if_neg hq1] at h
    refine v_aload_n F dX15_isBefore_11 rfl rfl ?_
    refine gf_X15_28 F dX15_isBefore_12 hp ?_
    refine v_aload_n F dX15_isBefore_15 rfl rfl ?_
    refine gf_X15_28 F dX15_isBefore_16 hp1 ?_
    refine v_icmp_ge F dX15_isBefore_19 rfl (fun hq5 => ?_) (fun hq5 => ?_)
    · rw [if_pos hq5] at h
      refine v_iconst F dX15_isBefore_26 ⟨by decide, by decide⟩ ?_
      subst h
      cases (show _ = r from K)
      exact v_zret F (Or.inl rfl) dX15_isBefore_27
    · rw [if_neg hq5] at h
      refine v_iconst F dX15_isBefore_22 ⟨by decide, by decide⟩ ?_
      refine v_goto F dX15_isBefore_23 rfl ?_
      subst h
      cases (show _ = r from K)
      exact v_zret F (Or.inr rfl) dX15_isBefore_27
theorem fX15_isBefore_z {d : Dt} {o a1 : Int} : fX15_isBefore d o a1 = 0 ∨ fX15_isBefore d o a1 = 1 := by
  unfold fX15_isBefore
  repeat' (first | exact Or.inl rfl | exact Or.inr rfl | split | assumption)
def fX0_sortIssues_4P (w : Wd) (l : Launch) (G : Cx) (Q : State → Prop) (m : Dt) (a1 : Int) (s : Dt × Int × Int) : Prop := V w l WF G Q s.1 m 0 0 4 [mA 1, mI a1, mI (s.2.1), mI (s.2.2), mU, mU] []
def fX0_sortIssues_32P (w : Wd) (l : Launch) (G : Cx) (Q : State → Prop) (m : Dt) (a1 v2 v3 v4 : Int) (s : Dt × Int) : Prop := V w l WF G Q s.1 m 0 0 32 [mA 1, mI a1, mI v2, mI v3, mA v4, mI (s.2)] []
theorem fX0_sortIssues_76_ok {w : Wd} {l : Launch} {G : Cx} {d m dd : Dt} {a1 v2 v3 v4 v5 : Int} {d' : Dt} {r : Int} {x : ((Dt × Int × Int) ⊕ (Dt × Int))} (F : Fx w G cX0_sortIssues RX0 6 (some .int) { frames := 1, cells := 0, slots := 0, locals := 21 }) (hX : WF dd m) (hp : PB m 1 0) (hv4 : PB m v4 14) (h : fX0_sortIssues_76 d a1 v2 v3 v4 v5 = some x) (K : (Sum.elim (fX0_sortIssues_4P w l G (QM w G WF (some (mI r)) d' m 0 0) m a1) (fun q => q = (d', r))) x) : V w l WF G (QM w G WF (some (mI r)) d' m 0 0) d m 0 0 76 [mA 1, mI a1, mI v2, mI v3, mA v4, mI v5] [] := by
  unfold fX0_sortIssues_76 at h
  refine v_aload_n F dX0_sortIssues_76 rfl rfl ?_
  refine gf_X0_115 F dX0_sortIssues_77 hp (v := 77) rfl ?_
  refine v_iload F dX0_sortIssues_80 rfl ?_
  refine v_aload F dX0_sortIssues_82 rfl ?_
  obtain ⟨hi9, h⟩ := ck_some h
  obtain ⟨d10, ed10, h⟩ := sd_some h
  refine v_aast (t := 112) (c := 14) F dX0_sortIssues_84 (ar_X0_33 hX hp) (Nat.le_of_ble_eq_true rfl) rfl rfl rfl rfl rfl hv4 (Nat.le_of_ble_eq_true rfl) hi9 ?_
  refine v_nD ed10 ?_
  obtain ⟨x11, ex11, h⟩ := lv_some h
  refine v_iincN F dX0_sortIssues_85 (Nat.le_of_ble_eq_true rfl) rfl ex11 (L' := [mA 1, mI a1, mI x11, mI v3, mA v4, mI v5]) rfl ?_
  obtain ⟨x12, ex12, h⟩ := lv_some h
  refine v_iincN F dX0_sortIssues_88 (Nat.le_of_ble_eq_true rfl) rfl ex12 (L' := [mA 1, mI a1, mI x11, mI x12, mA v4, mI v5]) rfl ?_
  refine v_goto F dX0_sortIssues_91 rfl ?_
  cases h
  refine v_fgt (L' := [mA 1, mI a1, mI x11, mI x12, mU, mU]) ⟨Or.inl rfl, Or.inl rfl, Or.inl rfl, Or.inl rfl, Or.inr rfl, Or.inr rfl, trivial⟩ ?_
  exact K
theorem fX0_sortIssues_32f_ok {w : Wd} {l : Launch} {G : Cx} {m dd : Dt} {a1 v2 v3 v4 : Int} {d' : Dt} {r : Int} {s : Dt × Int} {x : ((Dt × Int) ⊕ ((Dt × Int × Int) ⊕ (Dt × Int)))} (F : Fx w G cX0_sortIssues RX0 6 (some .int) { frames := 1, cells := 0, slots := 0, locals := 21 }) (hX : WF dd m) (hp : PB m 1 0) (hv4 : PB m v4 14) (h : fX0_sortIssues_32f a1 v2 v3 v4 s = some x) (K : (Sum.elim (fX0_sortIssues_32P w l G (QM w G WF (some (mI r)) d' m 0 0) m a1 v2 v3 v4) (Sum.elim (fX0_sortIssues_4P w l G (QM w G WF (some (mI r)) d' m 0 0) m a1) (fun q => q = (d', r)))) x) : V w l WF G (QM w G WF (some (mI r)) d' m 0 0) s.1 m 0 0 32 [mA 1, mI a1, mI v2, mI v3, mA v4, mI (s.2)] [] := by
  obtain ⟨d, v5⟩ := s
  unfold fX0_sortIssues_32f at h
  dsimp only at h
  refine v_iload F dX0_sortIssues_32 rfl ?_
  refine v_if_le F dX0_sortIssues_34 rfl (fun hq8 => ?_) (fun hq8 => ?_)
  · rw [if_pos hq8] at h
    obtain ⟨z, hu, ez⟩ := up_some h
    clear h
    subst ez
    have h := hu
    clear hu
    exact fX0_sortIssues_76_ok F hX hp hv4 h K
  · rw [if_neg hq8] at h
    refine v_aload F dX0_sortIssues_37 rfl ?_
    refine v_aload_n F dX0_sortIssues_39 rfl rfl ?_
    refine gf_X0_115 F dX0_sortIssues_40 hp (v := 77) rfl ?_
    refine v_iload F dX0_sortIssues_43 rfl ?_
    refine v_iconst F dX0_sortIssues_45 ⟨by decide, by decide⟩ ?_
    refine v_isub F dX0_sortIssues_46 ?_
    obtain ⟨x13, ex13, h⟩ := lv_some h
    refine v_nI ex13 ?_
    obtain ⟨hi14, h⟩ := ck_some h
    obtain ⟨x15, ex15, h⟩ := lv_some h
    obtain ⟨hn17, h⟩ := ck_some h
    refine v_aaldN (t := 112) (c := 14) F dX0_sortIssues_47 (ar_X0_33 hX hp) (Nat.le_of_ble_eq_true rfl) rfl rfl rfl rfl rfl hi14 ex15 fun hr16 => ?_
    have x15p := hr16.resolve_left hn17
    refine v_callVv (c := 14) F dX0_sortIssues_48 cv_X0_458 rfl (PB.ob hv4 hX (Nat.le_of_ble_eq_true rfl)) (Nat.le_of_ble_eq_true rfl) rfl (vm_X15_isBefore hv4 x15p) rfl (rOk.of rfl) ?_
    refine v_if_eq F dX0_sortIssues_51 rfl (fun hq18 => ?_) (fun hq18 => ?_)
    · rw [if_pos hq18] at h
      obtain ⟨z, hu, ez⟩ := up_some h
      clear h
      subst ez
      have h := hu
      clear hu
      exact fX0_sortIssues_76_ok F hX hp hv4 h K
    · rw [if_neg hq18] at h
      refine v_aload_n F dX0_sortIssues_54 rfl rfl ?_
      refine gf_X0_115 F dX0_sortIssues_55 hp (v := 77) rfl ?_
      refine v_iload F dX0_sortIssues_58 rfl ?_
      refine v_aload_n F dX0_sortIssues_60 rfl rfl ?_
      refine gf_X0_115 F dX0_sortIssues_61 hp (v := 77) rfl ?_
      refine v_iload F dX0_sortIssues_64 rfl ?_
      refine v_iconst F dX0_sortIssues_66 ⟨by decide, by decide⟩ ?_
      refine v_isub F dX0_sortIssues_67 ?_
      obtain ⟨x19, ex19, h⟩ := lv_some h
      refine v_nI ex19 ?_
      obtain ⟨hi20, h⟩ := ck_some h
      obtain ⟨x21, ex21, h⟩ := lv_some h
      obtain ⟨hn23, h⟩ := ck_some h
      refine v_aaldN (t := 112) (c := 14) F dX0_sortIssues_68 (ar_X0_33 hX hp) (Nat.le_of_ble_eq_true rfl) rfl rfl rfl rfl rfl hi20 ex21 fun hr22 => ?_
      have x21p := hr22.resolve_left hn23
      obtain ⟨hi24, h⟩ := ck_some h
      obtain ⟨d25, ed25, h⟩ := sd_some h
      refine v_aast (t := 112) (c := 14) F dX0_sortIssues_69 (ar_X0_33 hX hp) (Nat.le_of_ble_eq_true rfl) rfl rfl rfl rfl rfl x21p (Nat.le_of_ble_eq_true rfl) hi24 ?_
      refine v_nD ed25 ?_
      obtain ⟨x26, ex26, h⟩ := lv_some h
      refine v_iincN F dX0_sortIssues_70 (Nat.le_of_ble_eq_true rfl) rfl ex26 (L' := [mA 1, mI a1, mI v2, mI v3, mA v4, mI x26]) rfl ?_
      refine v_goto F dX0_sortIssues_73 rfl ?_
      cases h
      exact K
theorem fX0_sortIssues_32_ok {w : Wd} {l : Launch} {G : Cx} {d m dd : Dt} {a1 v2 v3 v4 v5 : Int} {d' : Dt} {r : Int} {x : ((Dt × Int × Int) ⊕ (Dt × Int))} (F : Fx w G cX0_sortIssues RX0 6 (some .int) { frames := 1, cells := 0, slots := 0, locals := 21 }) (hX : WF dd m) (hp : PB m 1 0) (hv4 : PB m v4 14) (h : fX0_sortIssues_32 d a1 v2 v3 v4 v5 = some x) (K : (Sum.elim (fX0_sortIssues_4P w l G (QM w G WF (some (mI r)) d' m 0 0) m a1) (fun q => q = (d', r))) x) : V w l WF G (QM w G WF (some (mI r)) d' m 0 0) d m 0 0 32 [mA 1, mI a1, mI v2, mI v3, mA v4, mI v5] [] := by
  unfold fX0_sortIssues_32 at h
  exact loop_ok (P := fX0_sortIssues_32P w l G (QM w G WF (some (mI r)) d' m 0 0) m a1 v2 v3 v4) (fun s x hx h1 h2 => fX0_sortIssues_32f_ok F hX hp hv4 hx (by
    cases x with
    | inl s' => exact h1 s' rfl
    | inr z => cases h2 z rfl; exact K)) h
theorem fX0_sortIssues_4f_ok {w : Wd} {l : Launch} {G : Cx} {m dd : Dt} {a1 : Int} {d' : Dt} {r : Int} {s : Dt × Int × Int} {x : ((Dt × Int × Int) ⊕ (Dt × Int))} (F : Fx w G cX0_sortIssues RX0 6 (some .int) { frames := 1, cells := 0, slots := 0, locals := 21 }) (hX : WF dd m) (hp : PB m 1 0) (h : fX0_sortIssues_4f a1 s = some x) (K : (Sum.elim (fX0_sortIssues_4P w l G (QM w G WF (some (mI r)) d' m 0 0) m a1) (fun q => q = (d', r))) x) : V w l WF G (QM w G WF (some (mI r)) d' m 0 0) s.1 m 0 0 4 [mA 1, mI a1, mI (s.2.1), mI (s.2.2), mU, mU] [] := by
  obtain ⟨d, v2, v3⟩ := s
  unfold fX0_sortIssues_4f at h
  dsimp only at h
  refine v_iload_n F dX0_sortIssues_4 rfl rfl ?_
  refine v_aload_n F dX0_sortIssues_5 rfl rfl ?_
  refine gf_X0_277 F dX0_sortIssues_6 hp ?_
  refine v_icmp_ge F dX0_sortIssues_9 rfl (fun hq1 => ?_) (fun hq1 => ?_)
  · rw [if_pos hq1] at h
    obtain ⟨z, hu, ez⟩ := up_some h
    clear h
    subst ez
    have h := hu
    clear hu
    refine v_iload_n F dX0_sortIssues_94 rfl rfl ?_
    cases h
    cases (show _ = (d', r) from K)
    exact v_iret F dX0_sortIssues_95
  · rw [if_neg hq1] at h
    refine v_aload_n F dX0_sortIssues_12 rfl rfl ?_
    refine gf_X0_111 F dX0_sortIssues_13 hp (v := 76) rfl ?_
    refine v_iload_n F dX0_sortIssues_16 rfl rfl ?_
    obtain ⟨hi2, h⟩ := ck_some h
    obtain ⟨x3, ex3, h⟩ := lv_some h
    obtain ⟨hn5, h⟩ := ck_some h
    refine v_aaldN (t := 112) (c := 14) F dX0_sortIssues_17 (ar_X0_31 hX hp) (Nat.le_of_ble_eq_true rfl) rfl rfl rfl rfl rfl hi2 ex3 fun hr4 => ?_
    have x3p := hr4.resolve_left hn5
    refine v_astore F dX0_sortIssues_18 (Nat.le_of_ble_eq_true rfl) (L' := [mA 1, mI a1, mI v2, mI v3, mA x3, mU]) rfl ?_
    refine v_aload F dX0_sortIssues_20 rfl ?_
    refine gf_X0_442 F dX0_sortIssues_22 x3p ?_
    refine v_iload_n F dX0_sortIssues_25 rfl rfl ?_
    refine v_icmp_ne F dX0_sortIssues_26 rfl (fun hq6 => ?_) (fun hq6 => ?_)
    · rw [if_neg hq6] at h
      obtain ⟨x7, ex7, h⟩ := lv_some h
      refine v_iincN F dX0_sortIssues_88 (Nat.le_of_ble_eq_true rfl) rfl ex7 (L' := [mA 1, mI a1, mI v2, mI x7, mA x3, mU]) rfl ?_
      refine v_goto F dX0_sortIssues_91 rfl ?_
      cases h
      refine v_fgt (L' := [mA 1, mI a1, mI v2, mI x7, mU, mU]) ⟨Or.inl rfl, Or.inl rfl, Or.inl rfl, Or.inl rfl, Or.inr rfl, Or.inl rfl, trivial⟩ ?_
      exact K
    · rw [if_pos hq6] at h
      refine v_iload_n F dX0_sortIssues_29 rfl rfl ?_
      refine v_istore F dX0_sortIssues_30 (Nat.le_of_ble_eq_true rfl) (L' := [mA 1, mI a1, mI v2, mI v3, mA x3, mI v2]) rfl ?_
      exact fX0_sortIssues_32_ok F hX hp x3p h K
theorem fX0_sortIssues_4_ok {w : Wd} {l : Launch} {G : Cx} {d m dd : Dt} {a1 v2 v3 : Int} {d' : Dt} {r : Int} {x : (Dt × Int)} (F : Fx w G cX0_sortIssues RX0 6 (some .int) { frames := 1, cells := 0, slots := 0, locals := 21 }) (hX : WF dd m) (hp : PB m 1 0) (h : fX0_sortIssues_4 d a1 v2 v3 = some x) (K : (fun q => q = (d', r)) x) : V w l WF G (QM w G WF (some (mI r)) d' m 0 0) d m 0 0 4 [mA 1, mI a1, mI v2, mI v3, mU, mU] [] := by
  unfold fX0_sortIssues_4 at h
  exact loop_ok (P := fX0_sortIssues_4P w l G (QM w G WF (some (mI r)) d' m 0 0) m a1) (fun s x hx h1 h2 => fX0_sortIssues_4f_ok F hX hp hx (by
    cases x with
    | inl s' => exact h1 s' rfl
    | inr z => cases h2 z rfl; exact K)) h
theorem vm_X0_sortIssues {w : Wd} {l : Launch} {d m : Dt} {a1 : Int} {d' : Dt} {r : Int} (hp : PB m 1 0) (h : fX0_sortIssues d a1 = some (d', r)) : VM w l WF yX0_sortIssues cX0_sortIssues 6 (some .int) 1 21 0 0 d m [mA 1, mI a1] (some (mI r)) d' m := by
  obtain ⟨x, h, K⟩ : ∃ x, fX0_sortIssues d a1 = some x ∧ x = (d', r) := ⟨_, h, rfl⟩
  refine VM.of (L := [mA 1, mI a1, mU, mU, mU, mU]) (by decide +kernel) rfl (Nat.le_of_ble_eq_true rfl) fun G F _ => v_fact fun _ hX _ _ => ?_
  unfold fX0_sortIssues at h
  refine v_iconst F dX0_sortIssues_0 ⟨by decide, by decide⟩ ?_
  refine v_istore_n F dX0_sortIssues_1 rfl (Nat.le_of_ble_eq_true rfl) (L' := [mA 1, mI a1, mI 0, mU, mU, mU]) rfl ?_
  refine v_iconst F dX0_sortIssues_2 ⟨by decide, by decide⟩ ?_
  refine v_istore_n F dX0_sortIssues_3 rfl (Nat.le_of_ble_eq_true rfl) (L' := [mA 1, mI a1, mI 0, mI 0, mU, mU]) rfl ?_
  exact fX0_sortIssues_4_ok F hX hp h K
theorem vm_X15_lives_2 {w : Wd} {l : Launch} {X : Dt → Dt → Prop} {d m : Dt} {a1 : Int} : VM w l X yX15_lives_2 cX15_lives_2 1 (some .boolean) 0 0 0 0 d m [mI a1] (some (mI (fX15_lives_2 a1))) d m := by
  obtain ⟨r, hr⟩ : ∃ r, fX15_lives_2 a1 = r := ⟨_, rfl⟩
  rw [hr]
  obtain ⟨x, h, K⟩ : ∃ x, fX15_lives_2 a1 = x ∧ x = r := ⟨_, hr, rfl⟩
  refine VM.of (L := [mI a1]) (by decide +kernel) rfl (Nat.le_of_ble_eq_true rfl) fun G F _ => ?_
  unfold fX15_lives_2 at h
  refine v_iload_n F dX15_lives_2_0 rfl rfl ?_
  refine v_if_eq F dX15_lives_2_1 rfl (fun hq1 => ?_) (fun hq1 => ?_)
  · rw [if_pos hq1] at h
    refine v_iconst F dX15_lives_2_14 ⟨by decide, by decide⟩ ?_
    refine v_goto F dX15_lives_2_15 rfl ?_
    subst h
    cases (show _ = r from K)
    exact v_zret F (Or.inr rfl) dX15_lives_2_19
  · rw [if_neg hq1] at h
    refine v_iload_n F dX15_lives_2_4 rfl rfl ?_
    refine v_iconst F dX15_lives_2_5 ⟨by decide, by decide⟩ ?_
    refine v_icmp_eq F dX15_lives_2_6 rfl (fun hq2 => ?_) (fun hq2 => ?_)
    · rw [if_pos hq2] at h
      refine v_iconst F dX15_lives_2_14 ⟨by decide, by decide⟩ ?_
      refine v_goto F dX15_lives_2_15 rfl ?_
      subst h
      cases (show _ = r from K)
      exact v_zret F (Or.inr rfl) dX15_lives_2_19
    · rw [if_neg hq2] at h
      refine v_iload_n F dX15_lives_2_9 rfl rfl ?_
      refine v_iconst F dX15_lives_2_10 ⟨by decide, by decide⟩ ?_
      refine v_icmp_ne F dX15_lives_2_11 rfl (fun hq3 => ?_) (fun hq3 => ?_)
      · rw [if_neg hq3] at h
        refine v_iconst F dX15_lives_2_18 ⟨by decide, by decide⟩ ?_
        subst h
        cases (show _ = r from K)
        exact v_zret F (Or.inl rfl) dX15_lives_2_19
      · rw [if_pos hq3] at h
        refine v_iconst F dX15_lives_2_14 ⟨by decide, by decide⟩ ?_
        refine v_goto F dX15_lives_2_15 rfl ?_
        subst h
        cases (show _ = r from K)
        exact v_zret F (Or.inr rfl) dX15_lives_2_19
theorem fX15_lives_2_z {a1 : Int} : fX15_lives_2 a1 = 0 ∨ fX15_lives_2 a1 = 1 := by
  unfold fX15_lives_2
  repeat' (first | exact Or.inl rfl | exact Or.inr rfl | split | assumption)
theorem vm_X15_lives {w : Wd} {l : Launch} {d m : Dt} {o : Int} (hp : PB m o 14) : VM w l WF yX15_lives cX15_lives 1 (some .boolean) 1 20 0 0 d m [mA o] (some (mI (fX15_lives d o))) d m := by
  obtain ⟨r, hr⟩ : ∃ r, fX15_lives d o = r := ⟨_, rfl⟩
  rw [hr]
  obtain ⟨x, h, K⟩ : ∃ x, fX15_lives d o = x ∧ x = r := ⟨_, hr, rfl⟩
  refine VM.of (L := [mA o]) (by decide +kernel) rfl (Nat.le_of_ble_eq_true rfl) fun G F _ => v_fact fun _ hX _ _ => ?_
  unfold fX15_lives at h
  refine v_aload_n F dX15_lives_0 rfl rfl ?_
  refine gf_X15_31 F dX15_lives_1 hp ?_
  refine v_callSv F dX15_lives_4 cs_X15_34 rfl (vm_X15_lives_2) rfl (rOk.of rfl) ?_
  subst h
  cases (show _ = r from K)
  exact v_zret F (fX15_lives_2_z) dX15_lives_7
theorem fX15_lives_z {d : Dt} {o : Int} : fX15_lives d o = 0 ∨ fX15_lives d o = 1 := by
  unfold fX15_lives
  repeat' (first | exact Or.inl rfl | exact Or.inr rfl | split | assumption | exact fX15_lives_2_z)
def fX0_rivalOf_2P (w : Wd) (l : Launch) (G : Cx) (Q : State → Prop) (m : Dt) (d : Dt) (a1 : Int) (s : Int) : Prop := V w l WF G Q d m 0 0 2 [mA 1, mA a1, mI (s), mU] []
theorem fX0_rivalOf_2f_ok {w : Wd} {l : Launch} {G : Cx} {d m dd : Dt} {a1 : Int} {r : Int} {s : Int} {x : ((Int) ⊕ Int)} (F : Fx w G cX0_rivalOf RX0 4 (some (.object "ElectionHouse$Issue")) { frames := 2, cells := 0, slots := 0, locals := 40 }) (hX : WF dd m) (hp : PB m 1 0) (hp1 : PB m a1 14) (h : fX0_rivalOf_2f d a1 s = some x) (K : (Sum.elim (fX0_rivalOf_2P w l G (QM w G WF (some (mA r)) d m 0 0) m d a1) (fun q => q = r)) x) : V w l WF G (QM w G WF (some (mA r)) d m 0 0) d m 0 0 2 [mA 1, mA a1, mI (s), mU] [] := by
  obtain ⟨v2, rfl⟩ : ∃ z, z = s := ⟨s, rfl⟩
  unfold fX0_rivalOf_2f at h
  dsimp only at h
  refine v_iload_n F dX0_rivalOf_2 rfl rfl ?_
  refine v_aload_n F dX0_rivalOf_3 rfl rfl ?_
  refine gf_X0_277 F dX0_rivalOf_4 hp ?_
  refine v_icmp_ge F dX0_rivalOf_7 rfl (fun hq1 => ?_) (fun hq1 => ?_)
  · rw [if_pos hq1] at h
    obtain ⟨z, hu, ez⟩ := up_some h
    clear h
    subst ez
    have h := hu
    clear hu
    refine v_null F dX0_rivalOf_55 ?_
    cases h
    cases (show _ = r from K)
    exact v_aret F rfl (Or.inl ⟨_, rfl⟩) dX0_rivalOf_56
  · rw [if_neg hq1] at h
    refine v_aload_n F dX0_rivalOf_10 rfl rfl ?_
    refine gf_X0_111 F dX0_rivalOf_11 hp (v := 76) rfl ?_
    refine v_iload_n F dX0_rivalOf_14 rfl rfl ?_
    obtain ⟨hi2, h⟩ := ck_some h
    obtain ⟨x3, ex3, h⟩ := lv_some h
    obtain ⟨hn5, h⟩ := ck_some h
    refine v_aaldN (t := 112) (c := 14) F dX0_rivalOf_15 (ar_X0_31 hX hp) (Nat.le_of_ble_eq_true rfl) rfl rfl rfl rfl rfl hi2 ex3 fun hr4 => ?_
    have x3p := hr4.resolve_left hn5
    refine v_astore_n F dX0_rivalOf_16 rfl (Nat.le_of_ble_eq_true rfl) (L' := [mA 1, mA a1, mI v2, mA x3]) rfl ?_
    refine v_aload_n F dX0_rivalOf_17 rfl rfl ?_
    refine v_aload_n F dX0_rivalOf_18 rfl rfl ?_
    refine v_acmp_eq F dX0_rivalOf_19 rfl (Int.le_of_lt (PB.ob x3p hX (Nat.le_of_ble_eq_true rfl)).1) (Int.le_of_lt (PB.ob hp1 hX (Nat.le_of_ble_eq_true rfl)).1) (fun hq6 => ?_) (fun hq6 => ?_)
    · rw [if_pos hq6] at h
      obtain ⟨x7, ex7, h⟩ := lv_some h
      refine v_iincN F dX0_rivalOf_49 (Nat.le_of_ble_eq_true rfl) rfl ex7 (L' := [mA 1, mA a1, mI x7, mA x3]) rfl ?_
      refine v_goto F dX0_rivalOf_52 rfl ?_
      cases h
      refine v_fgt (L' := [mA 1, mA a1, mI x7, mU]) ⟨Or.inl rfl, Or.inl rfl, Or.inl rfl, Or.inr rfl, trivial⟩ ?_
      exact K
    · rw [if_neg hq6] at h
      refine v_aload_n F dX0_rivalOf_22 rfl rfl ?_
      refine gf_X0_449 F dX0_rivalOf_23 x3p ?_
      refine v_aload_n F dX0_rivalOf_26 rfl rfl ?_
      refine gf_X0_449 F dX0_rivalOf_27 hp1 ?_
      refine v_icmp_ne F dX0_rivalOf_30 rfl (fun hq8 => ?_) (fun hq8 => ?_)
      · rw [if_neg hq8] at h
        obtain ⟨x9, ex9, h⟩ := lv_some h
        refine v_iincN F dX0_rivalOf_49 (Nat.le_of_ble_eq_true rfl) rfl ex9 (L' := [mA 1, mA a1, mI x9, mA x3]) rfl ?_
        refine v_goto F dX0_rivalOf_52 rfl ?_
        cases h
        refine v_fgt (L' := [mA 1, mA a1, mI x9, mU]) ⟨Or.inl rfl, Or.inl rfl, Or.inl rfl, Or.inr rfl, trivial⟩ ?_
        exact K
      · rw [if_pos hq8] at h
        refine v_aload_n F dX0_rivalOf_33 rfl rfl ?_
        refine gf_X0_446 F dX0_rivalOf_34 x3p ?_
        refine v_if_eq F dX0_rivalOf_37 rfl (fun hq10 => ?_) (fun hq10 => ?_)
        · rw [if_pos hq10] at h
          obtain ⟨x11, ex11, h⟩ := lv_some h
          refine v_iincN F dX0_rivalOf_49 (Nat.le_of_ble_eq_true rfl) rfl ex11 (L' := [mA 1, mA a1, mI x11, mA x3]) rfl ?_
          refine v_goto F dX0_rivalOf_52 rfl ?_
          cases h
          refine v_fgt (L' := [mA 1, mA a1, mI x11, mU]) ⟨Or.inl rfl, Or.inl rfl, Or.inl rfl, Or.inr rfl, trivial⟩ ?_
          exact K
        · rw [if_neg hq10] at h
          refine v_aload_n F dX0_rivalOf_40 rfl rfl ?_
          refine v_callVv (c := 14) F dX0_rivalOf_41 cv_X0_450 rfl (PB.ob x3p hX (Nat.le_of_ble_eq_true rfl)) (Nat.le_of_ble_eq_true rfl) rfl (vm_X15_lives x3p) rfl (rOk.of rfl) ?_
          refine v_if_eq F dX0_rivalOf_44 rfl (fun hq12 => ?_) (fun hq12 => ?_)
          · rw [if_pos hq12] at h
            obtain ⟨x13, ex13, h⟩ := lv_some h
            refine v_iincN F dX0_rivalOf_49 (Nat.le_of_ble_eq_true rfl) rfl ex13 (L' := [mA 1, mA a1, mI x13, mA x3]) rfl ?_
            refine v_goto F dX0_rivalOf_52 rfl ?_
            cases h
            refine v_fgt (L' := [mA 1, mA a1, mI x13, mU]) ⟨Or.inl rfl, Or.inl rfl, Or.inl rfl, Or.inr rfl, trivial⟩ ?_
            exact K
          · rw [if_neg hq12] at h
            obtain ⟨z, hu, ez⟩ := up_some h
            clear h
            subst ez
            have h := hu
            clear hu
            refine v_aload_n F dX0_rivalOf_47 rfl rfl ?_
            cases h
            cases (show _ = r from K)
            exact v_aret F rfl (Or.inl ⟨_, rfl⟩) dX0_rivalOf_48
theorem fX0_rivalOf_2_ok {w : Wd} {l : Launch} {G : Cx} {d m dd : Dt} {a1 v2 : Int} {r : Int} {x : Int} (F : Fx w G cX0_rivalOf RX0 4 (some (.object "ElectionHouse$Issue")) { frames := 2, cells := 0, slots := 0, locals := 40 }) (hX : WF dd m) (hp : PB m 1 0) (hp1 : PB m a1 14) (h : fX0_rivalOf_2 d a1 v2 = some x) (K : (fun q => q = r) x) : V w l WF G (QM w G WF (some (mA r)) d m 0 0) d m 0 0 2 [mA 1, mA a1, mI v2, mU] [] := by
  unfold fX0_rivalOf_2 at h
  exact loop_ok (P := fX0_rivalOf_2P w l G (QM w G WF (some (mA r)) d m 0 0) m d a1) (fun s x hx h1 h2 => fX0_rivalOf_2f_ok F hX hp hp1 hx (by
    cases x with
    | inl s' => exact h1 s' rfl
    | inr z => cases h2 z rfl; exact K)) h
theorem vm_X0_rivalOf {w : Wd} {l : Launch} {d m : Dt} {a1 : Int} {r : Int} (hp : PB m 1 0) (hp1 : PB m a1 14) (h : fX0_rivalOf d a1 = some r) : VM w l WF yX0_rivalOf cX0_rivalOf 4 (some (.object "ElectionHouse$Issue")) 2 40 0 0 d m [mA 1, mA a1] (some (mA r)) d m := by
  obtain ⟨x, h, K⟩ : ∃ x, fX0_rivalOf d a1 = some x ∧ x = r := ⟨_, h, rfl⟩
  refine VM.of (L := [mA 1, mA a1, mU, mU]) (by decide +kernel) rfl (Nat.le_of_ble_eq_true rfl) fun G F _ => v_fact fun _ hX _ _ => ?_
  unfold fX0_rivalOf at h
  refine v_iconst F dX0_rivalOf_0 ⟨by decide, by decide⟩ ?_
  refine v_istore_n F dX0_rivalOf_1 rfl (Nat.le_of_ble_eq_true rfl) (L' := [mA 1, mA a1, mI 0, mU]) rfl ?_
  exact fX0_rivalOf_2_ok F hX hp hp1 h K
theorem loop_res {σ ρ : Type} {f : σ → Option (σ ⊕ ρ)} {P : ρ → Prop} {s : σ} {r : ρ} (hs : ∀ s z, f s = some (.inr z) → P z) (h : loop f s = some r) : P r :=
  loop_ok (P := fun _ => P r) (fun s x e a b => by
    cases x with
    | inl s' => exact a s' rfl
    | inr z => exact b z rfl ▸ hs s z e) h
theorem WF.elN {d m : Dt} (hX : WF d m) {a i n : Int} {t c : Nat} (ho : AR m a t n) (ht : 100 < t) (hr : isRT (k_el t) = true) (htg : k_tg (k_el t) = (c : Int) + 1) (hi : 0 ≤ i ∧ i < n) : d a i = 0 ∨ PB m (d a i) c := by
  have h := (hX.2.2 a ho.1).2 t ho.2.1 ht hr i hi.1 (by rw [ho.2.2]; exact hi.2)
  rw [htg] at h
  exact h
theorem pb_X0_rivalOf {d m : Dt} {a1 r : Int} (hX : WF d m) (hp : PB m 1 0) (_ : PB m a1 14) (h : fX0_rivalOf d a1 = some r) : r = 0 ∨ PB m r 14 := by
  refine loop_res (P := fun r => r = 0 ∨ PB m r 14) (fun s z e => ?_) h
  unfold fX0_rivalOf_2f at e
  dsimp only at e
  split at e
  · obtain ⟨y, hu, ez⟩ := up_some e
    cases ez
    exact Or.inl (Option.some.inj hu).symm
  obtain ⟨hi, e⟩ := ck_some e
  obtain ⟨x3, ex3, e⟩ := lv_some e
  obtain ⟨hn, e⟩ := ck_some e
  have hq : z = x3 := by
    repeat' split at e
    all_goals first
      | (obtain ⟨y, hu, ez⟩ := up_some e; cases ez; exact (Option.some.inj hu).symm)
      | (obtain ⟨y, hu, e⟩ := lv_some e; cases e)
  subst hq
  rw [ex3]
  exact hX.elN (t := 112) (ar_X0_31 hX hp) (Nat.le_of_ble_eq_true rfl) rfl rfl hi
theorem fX0_settle_57_ok {w : Wd} {l : Launch} {G : Cx} {d m dd : Dt} {a1 v2 s0 : Int} {d' : Dt} {x : Dt} (F : Fx w G cX0_settle RX0 4 none { frames := 3, cells := 0, slots := 0, locals := 63 }) (hX : WF dd m) (hp : PB m 1 0) (hp1 : PB m a1 14) (hv2 : PB m v2 14) (h : fX0_settle_57 d a1 v2 s0 = some x) (K : (fun q => q = d') x) : V w l WF G (QM w G WF none d' m 0 0) d m 0 0 57 [mU, mA a1, mA v2, mU] [mI s0] := by
  unfold fX0_settle_57 at h
  refine v_istore_n F dX0_settle_57 rfl (Nat.le_of_ble_eq_true rfl) (L' := [mU, mA a1, mA v2, mI s0]) rfl ?_
  refine v_iload_n F dX0_settle_58 rfl rfl ?_
  refine v_if_eq F dX0_settle_59 rfl (fun hq5 => ?_) (fun hq5 => ?_)
  · rw [if_pos hq5] at h
    refine v_aload_n F dX0_settle_70 rfl rfl ?_
    refine v_iconst F dX0_settle_71 ⟨by decide, by decide⟩ ?_
    obtain ⟨d6, ed6, h⟩ := sd_some h
    refine pf_X0_445 F dX0_settle_72 hp1 ?_
    refine v_nD ed6 ?_
    cases h
    cases (show _ = d' from K)
    exact v_vret F dX0_settle_75
  · rw [if_neg hq5] at h
    refine v_aload_n F dX0_settle_62 rfl rfl ?_
    refine v_iconst F dX0_settle_63 ⟨by decide, by decide⟩ ?_
    obtain ⟨d7, ed7, h⟩ := sd_some h
    refine pf_X0_445 F dX0_settle_64 hv2 ?_
    refine v_nD ed7 ?_
    refine v_goto F dX0_settle_67 rfl ?_
    cases h
    cases (show _ = d' from K)
    exact v_vret F dX0_settle_75
theorem fX0_settle_21_ok {w : Wd} {l : Launch} {G : Cx} {d m dd : Dt} {a1 s0 : Int} {d' : Dt} {x : Dt} (F : Fx w G cX0_settle RX0 4 none { frames := 3, cells := 0, slots := 0, locals := 63 }) (hX : WF dd m) (hp : PB m 1 0) (hp1 : PB m a1 14) (hs0 : s0 = 0 ∨ PB m s0 14) (h : fX0_settle_21 d a1 s0 = some x) (K : (fun q => q = d') x) : V w l WF G (QM w G WF none d' m 0 0) d m 0 0 21 [mU, mA a1, mU, mU] [mA s0] := by
  unfold fX0_settle_21 at h
  refine v_astore_n F dX0_settle_21 rfl (Nat.le_of_ble_eq_true rfl) (L' := [mU, mA a1, mA s0, mU]) rfl ?_
  refine v_aload_n F dX0_settle_22 rfl rfl ?_
  refine v_ifnonnull F dX0_settle_23 rfl (fun hq3 => ?_) (fun hq3 => ?_)
  · rw [if_neg hq3] at h
    refine v_aload_n F dX0_settle_27 rfl rfl ?_
    refine gf_X0_445 F dX0_settle_28 (hs0.resolve_left hq3) ?_
    refine v_iconst F dX0_settle_31 ⟨by decide, by decide⟩ ?_
    refine v_icmp_eq F dX0_settle_32 rfl (fun hq4 => ?_) (fun hq4 => ?_)
    · rw [if_pos hq4] at h
      refine v_iconst F dX0_settle_56 ⟨by decide, by decide⟩ ?_
      exact fX0_settle_57_ok F hX hp hp1 (hs0.resolve_left hq3) h K
    · rw [if_neg hq4] at h
      refine v_aload_n F dX0_settle_35 rfl rfl ?_
      refine gf_X0_442 F dX0_settle_36 (hs0.resolve_left hq3) ?_
      refine v_bipush F dX0_settle_39 rfl ⟨by decide, by decide⟩ ?_
      refine v_icmp_eq F dX0_settle_41 rfl (fun hq8 => ?_) (fun hq8 => ?_)
      · rw [if_pos hq8] at h
        refine v_iconst F dX0_settle_52 ⟨by decide, by decide⟩ ?_
        refine v_goto F dX0_settle_53 rfl ?_
        exact fX0_settle_57_ok F hX hp hp1 (hs0.resolve_left hq3) h K
      · rw [if_neg hq8] at h
        refine v_aload_n F dX0_settle_44 rfl rfl ?_
        refine v_aload_n F dX0_settle_45 rfl rfl ?_
        refine v_callVv (c := 14) F dX0_settle_46 cv_X0_458 rfl (PB.ob hp1 hX (Nat.le_of_ble_eq_true rfl)) (Nat.le_of_ble_eq_true rfl) rfl (vm_X15_isBefore hp1 (hs0.resolve_left hq3)) rfl (rOk.of rfl) ?_
        refine v_if_eq F dX0_settle_49 rfl (fun hq9 => ?_) (fun hq9 => ?_)
        · rw [if_pos hq9] at h
          refine v_iconst F dX0_settle_56 ⟨by decide, by decide⟩ ?_
          exact fX0_settle_57_ok F hX hp hp1 (hs0.resolve_left hq3) h K
        · rw [if_neg hq9] at h
          refine v_iconst F dX0_settle_52 ⟨by decide, by decide⟩ ?_
          refine v_goto F dX0_settle_53 rfl ?_
          exact fX0_settle_57_ok F hX hp hp1 (hs0.resolve_left hq3) h K
  · rw [if_pos hq3] at h
    cases h
    cases (show _ = d' from K)
    exact v_vret F dX0_settle_26
theorem vm_X0_settle {w : Wd} {l : Launch} {d m : Dt} {a1 : Int} {d' : Dt} (hp : PB m 1 0) (hp1 : PB m a1 14) (h : fX0_settle d a1 = some d') : VM w l WF yX0_settle cX0_settle 4 none 3 63 0 0 d m [mA 1, mA a1] none d' m := by
  obtain ⟨x, h, K⟩ : ∃ x, fX0_settle d a1 = some x ∧ x = d' := ⟨_, h, rfl⟩
  refine VM.of (L := [mA 1, mA a1, mU, mU]) (by decide +kernel) rfl (Nat.le_of_ble_eq_true rfl) fun G F _ => v_fact fun _ hX _ _ => ?_
  unfold fX0_settle at h
  refine v_aload_n F dX0_settle_0 rfl rfl ?_
  refine v_iconst F dX0_settle_1 ⟨by decide, by decide⟩ ?_
  obtain ⟨d1, ed1, h⟩ := sd_some h
  refine pf_X0_446 F dX0_settle_2 hp1 (Or.inr rfl) ?_
  refine v_nD ed1 ?_
  refine v_aload_n F dX0_settle_5 rfl rfl ?_
  refine v_callVv (c := 14) F dX0_settle_6 cv_X0_450 rfl (PB.ob hp1 hX (Nat.le_of_ble_eq_true rfl)) (Nat.le_of_ble_eq_true rfl) rfl (vm_X15_lives hp1) rfl (rOk.of rfl) ?_
  refine v_if_eq F dX0_settle_9 rfl (fun hq2 => ?_) (fun hq2 => ?_)
  · rw [if_pos hq2] at h
    refine v_null F dX0_settle_20 ?_
    refine v_fgt (L' := [mU, mA a1, mU, mU]) ⟨Or.inr rfl, Or.inl rfl, Or.inl rfl, Or.inl rfl, trivial⟩ ?_
    exact fX0_settle_21_ok F hX hp hp1 (Or.inl rfl) h K
  · rw [if_neg hq2] at h
    refine v_aload_n F dX0_settle_12 rfl rfl ?_
    refine v_aload_n F dX0_settle_13 rfl rfl ?_
    obtain ⟨x10, hc11, h⟩ := b1_some h
    refine v_callVv (c := 0) F dX0_settle_14 cv_X0_454 rfl (PB.ob hp hX (Nat.le_of_ble_eq_true rfl)) (Nat.le_of_ble_eq_true rfl) rfl (vm_X0_rivalOf hp hp1 hc11) rfl (rOk.of rfl) ?_
    refine v_fact fun _ hw12 _ _ => ?_
    refine v_goto F dX0_settle_17 rfl ?_
    refine v_fgt (L' := [mU, mA a1, mU, mU]) ⟨Or.inr rfl, Or.inl rfl, Or.inl rfl, Or.inl rfl, trivial⟩ ?_
    exact fX0_settle_21_ok F hX hp hp1 (pb_X0_rivalOf hw12 hp hp1 hc11) h K
def fX0_fieldsOf_4P (w : Wd) (l : Launch) (G : Cx) (Q : State → Prop) (m : Dt) (d : Dt) (a1 : Int) (s : Int × Int) : Prop := V w l WF G Q d m 0 0 4 [mA 1, mI a1, mI (s.1), mI (s.2)] []
theorem fX0_fieldsOf_33_ok {w : Wd} {l : Launch} {G : Cx} {d m dd : Dt} {a1 v3 s0 s1 : Int} {r : Int} {x : ((Int × Int) ⊕ Int)} (F : Fx w G cX0_fieldsOf RX0 4 (some .int) { frames := 0, cells := 0, slots := 0, locals := 0 }) (hX : WF dd m) (hp : PB m 1 0) (h : fX0_fieldsOf_33 d a1 v3 s0 s1 = some x) (K : (Sum.elim (fX0_fieldsOf_4P w l G (QM w G WF (some (mI r)) d m 0 0) m d a1) (fun q => q = r)) x) : V w l WF G (QM w G WF (some (mI r)) d m 0 0) d m 0 0 33 [mA 1, mI a1, mU, mI v3] [mI s1, mI s0] := by
  unfold fX0_fieldsOf_33 at h
  refine v_iadd F dX0_fieldsOf_33 ?_
  obtain ⟨x3, ex3, h⟩ := lv_some h
  refine v_nI ex3 ?_
  refine v_istore_n F dX0_fieldsOf_34 rfl (Nat.le_of_ble_eq_true rfl) (L' := [mA 1, mI a1, mI x3, mI v3]) rfl ?_
  obtain ⟨x4, ex4, h⟩ := lv_some h
  refine v_iincN F dX0_fieldsOf_35 (Nat.le_of_ble_eq_true rfl) rfl ex4 (L' := [mA 1, mI a1, mI x3, mI x4]) rfl ?_
  refine v_goto F dX0_fieldsOf_38 rfl ?_
  cases h
  exact K
theorem fX0_fieldsOf_4f_ok {w : Wd} {l : Launch} {G : Cx} {d m dd : Dt} {a1 : Int} {r : Int} {s : Int × Int} {x : ((Int × Int) ⊕ Int)} (F : Fx w G cX0_fieldsOf RX0 4 (some .int) { frames := 0, cells := 0, slots := 0, locals := 0 }) (hX : WF dd m) (hp : PB m 1 0) (h : fX0_fieldsOf_4f d a1 s = some x) (K : (Sum.elim (fX0_fieldsOf_4P w l G (QM w G WF (some (mI r)) d m 0 0) m d a1) (fun q => q = r)) x) : V w l WF G (QM w G WF (some (mI r)) d m 0 0) d m 0 0 4 [mA 1, mI a1, mI (s.1), mI (s.2)] [] := by
  obtain ⟨v2, v3⟩ := s
  unfold fX0_fieldsOf_4f at h
  dsimp only at h
  refine v_iload_n F dX0_fieldsOf_4 rfl rfl ?_
  refine v_bipush F dX0_fieldsOf_5 rfl ⟨by decide, by decide⟩ ?_
  refine v_icmp_ge F dX0_fieldsOf_7 rfl (fun hq1 => ?_) (fun hq1 => ?_)
  · rw [if_pos hq1] at h
    obtain ⟨z, hu, ez⟩ := up_some h
    clear h
    subst ez
    have h := hu
    clear hu
    refine v_iload_n F dX0_fieldsOf_41 rfl rfl ?_
    cases h
    cases (show _ = r from K)
    exact v_iret F dX0_fieldsOf_42
  · rw [if_neg hq1] at h
    refine v_iload_n F dX0_fieldsOf_10 rfl rfl ?_
    refine v_iload_n F dX0_fieldsOf_11 rfl rfl ?_
    refine v_iload_n F dX0_fieldsOf_12 rfl rfl ?_
    refine v_ishr F dX0_fieldsOf_13 ?_
    refine v_iconst F dX0_fieldsOf_14 ⟨by decide, by decide⟩ ?_
    refine v_iand F dX0_fieldsOf_15 ?_
    refine v_iconst F dX0_fieldsOf_16 ⟨by decide, by decide⟩ ?_
    refine v_icmp_ne F dX0_fieldsOf_17 rfl (fun hq2 => ?_) (fun hq2 => ?_)
    · rw [if_neg hq2] at h
      refine v_iconst F dX0_fieldsOf_32 ⟨by decide, by decide⟩ ?_
      refine v_fgt (L' := [mA 1, mI a1, mU, mI v3]) ⟨Or.inl rfl, Or.inl rfl, Or.inr rfl, Or.inl rfl, trivial⟩ ?_
      exact fX0_fieldsOf_33_ok F hX hp h K
    · rw [if_pos hq2] at h
      refine v_aload_n F dX0_fieldsOf_20 rfl rfl ?_
      refine gf_X0_62 F dX0_fieldsOf_21 hp (v := 57) rfl ?_
      refine v_iload_n F dX0_fieldsOf_24 rfl rfl ?_
      obtain ⟨hi5, h⟩ := ck_some h
      refine v_aaldF (c := 0) (k := 13) F dX0_fieldsOf_25 hp (Nat.le_of_ble_eq_true rfl) (Nat.le_of_ble_eq_true rfl) (by decide) (by decide) rfl (ar_X0_13 hX hp) (Nat.le_of_ble_eq_true rfl) rfl rfl rfl rfl hi5 (v := (629 + 8 * v3)) (by show 1 + 628 + 8 * v3 = _; omega) ?_
      refine gf_X0_317 F dX0_fieldsOf_26 (ae_X0_13 (i := v3) hX hp hi5 (v := (629 + 8 * v3)) (by omega)) ?_
      refine v_goto F dX0_fieldsOf_29 rfl ?_
      refine v_fgt (L' := [mA 1, mI a1, mU, mI v3]) ⟨Or.inl rfl, Or.inl rfl, Or.inr rfl, Or.inl rfl, trivial⟩ ?_
      exact fX0_fieldsOf_33_ok F hX hp h K
theorem fX0_fieldsOf_4_ok {w : Wd} {l : Launch} {G : Cx} {d m dd : Dt} {a1 v2 v3 : Int} {r : Int} {x : Int} (F : Fx w G cX0_fieldsOf RX0 4 (some .int) { frames := 0, cells := 0, slots := 0, locals := 0 }) (hX : WF dd m) (hp : PB m 1 0) (h : fX0_fieldsOf_4 d a1 v2 v3 = some x) (K : (fun q => q = r) x) : V w l WF G (QM w G WF (some (mI r)) d m 0 0) d m 0 0 4 [mA 1, mI a1, mI v2, mI v3] [] := by
  unfold fX0_fieldsOf_4 at h
  exact loop_ok (P := fX0_fieldsOf_4P w l G (QM w G WF (some (mI r)) d m 0 0) m d a1) (fun s x hx h1 h2 => fX0_fieldsOf_4f_ok F hX hp hx (by
    cases x with
    | inl s' => exact h1 s' rfl
    | inr z => cases h2 z rfl; exact K)) h
theorem vm_X0_fieldsOf {w : Wd} {l : Launch} {d m : Dt} {a1 : Int} {r : Int} (hp : PB m 1 0) (h : fX0_fieldsOf d a1 = some r) : VM w l WF yX0_fieldsOf cX0_fieldsOf 4 (some .int) 0 0 0 0 d m [mA 1, mI a1] (some (mI r)) d m := by
  obtain ⟨x, h, K⟩ : ∃ x, fX0_fieldsOf d a1 = some x ∧ x = r := ⟨_, h, rfl⟩
  refine VM.of (L := [mA 1, mI a1, mU, mU]) (by decide +kernel) rfl (Nat.le_of_ble_eq_true rfl) fun G F _ => v_fact fun _ hX _ _ => ?_
  unfold fX0_fieldsOf at h
  refine v_iconst F dX0_fieldsOf_0 ⟨by decide, by decide⟩ ?_
  refine v_istore_n F dX0_fieldsOf_1 rfl (Nat.le_of_ble_eq_true rfl) (L' := [mA 1, mI a1, mI 0, mU]) rfl ?_
  refine v_iconst F dX0_fieldsOf_2 ⟨by decide, by decide⟩ ?_
  refine v_istore_n F dX0_fieldsOf_3 rfl (Nat.le_of_ble_eq_true rfl) (L' := [mA 1, mI a1, mI 0, mI 0]) rfl ?_
  exact fX0_fieldsOf_4_ok F hX hp h K
def fX10_isBehind_29P (w : Wd) (l : Launch) (G : Cx) (Q : State → Prop) (m : Dt) (d : Dt) (o a1 a2 a3 a4 : Int) (s : Int) : Prop := V w l WF G Q d m 0 0 29 [mA o, mI a1, mU, mA a3, mI a4, mI (s)] []
theorem fX10_isBehind_29f_ok {w : Wd} {l : Launch} {G : Cx} {d m dd : Dt} {o a1 a2 a3 a4 : Int} {r : Int} {s : Int} {x : ((Int) ⊕ Int)} (F : Fx w G cX10_isBehind RX10 6 (some .boolean) { frames := 0, cells := 0, slots := 0, locals := 0 }) (hX : WF dd m) (hp : PB m o 10) (hp3 : AR m a3 102 54) (h : fX10_isBehind_29f d o a1 a2 a3 a4 s = some x) (K : (Sum.elim (fX10_isBehind_29P w l G (QM w G WF (some (mI r)) d m 0 0) m d o a1 a2 a3 a4) (fun q => q = r)) x) : V w l WF G (QM w G WF (some (mI r)) d m 0 0) d m 0 0 29 [mA o, mI a1, mU, mA a3, mI a4, mI (s)] [] := by
  obtain ⟨v5, rfl⟩ : ∃ z, z = s := ⟨s, rfl⟩
  unfold fX10_isBehind_29f at h
  dsimp only at h
  refine v_iload F dX10_isBehind_29 rfl ?_
  refine v_iload F dX10_isBehind_31 rfl ?_
  refine v_icmp_ge F dX10_isBehind_33 rfl (fun hq3 => ?_) (fun hq3 => ?_)
  · rw [if_pos hq3] at h
    obtain ⟨z, hu, ez⟩ := up_some h
    clear h
    subst ez
    have h := hu
    clear hu
    refine v_iconst F dX10_isBehind_80 ⟨by decide, by decide⟩ ?_
    cases h
    cases (show _ = r from K)
    exact v_zret F (Or.inl rfl) dX10_isBehind_81
  · rw [if_neg hq3] at h
    refine v_aload_n F dX10_isBehind_36 rfl rfl ?_
    refine gf_X10_17 F dX10_isBehind_37 hp (v := (o + 2)) rfl ?_
    refine v_iload_n F dX10_isBehind_40 rfl rfl ?_
    obtain ⟨hi4, h⟩ := ck_some h
    refine v_aaldF (c := 10) (k := 1) F dX10_isBehind_41 hp (Nat.le_of_ble_eq_true rfl) (Nat.le_of_ble_eq_true rfl) (by decide) (by decide) rfl (ar_X10_1 hX hp) (Nat.le_of_ble_eq_true rfl) rfl rfl rfl rfl hi4 (v := ((o + 3) + a1)) (by show o + 3 + 1 * a1 = _; omega) ?_
    refine v_iload F dX10_isBehind_42 rfl ?_
    obtain ⟨hi5, h⟩ := ck_some h
    refine v_bald F dX10_isBehind_44 (ae_X10_1 (i := a1) hX hp hi4 (v := ((o + 3) + a1)) (by omega)) hi5 ?_
    refine v_aload_n F dX10_isBehind_45 rfl rfl ?_
    refine v_iload F dX10_isBehind_46 rfl ?_
    refine v_bald F dX10_isBehind_48 hp3 hi5 ?_
    refine v_icmp_eq F dX10_isBehind_49 rfl (fun hq6 => ?_) (fun hq6 => ?_)
    · rw [if_pos hq6] at h
      obtain ⟨x7, ex7, h⟩ := lv_some h
      refine v_iincN F dX10_isBehind_74 (Nat.le_of_ble_eq_true rfl) rfl ex7 (L' := [mA o, mI a1, mU, mA a3, mI a4, mI x7]) rfl ?_
      refine v_goto F dX10_isBehind_77 rfl ?_
      cases h
      exact K
    · rw [if_neg hq6] at h
      obtain ⟨z, hu, ez⟩ := up_some h
      clear h
      subst ez
      have h := hu
      clear hu
      refine v_aload_n F dX10_isBehind_52 rfl rfl ?_
      refine gf_X10_17 F dX10_isBehind_53 hp (v := (o + 2)) rfl ?_
      refine v_iload_n F dX10_isBehind_56 rfl rfl ?_
      refine v_aaldF (c := 10) (k := 1) F dX10_isBehind_57 hp (Nat.le_of_ble_eq_true rfl) (Nat.le_of_ble_eq_true rfl) (by decide) (by decide) rfl (ar_X10_1 hX hp) (Nat.le_of_ble_eq_true rfl) rfl rfl rfl rfl hi4 (v := ((o + 3) + a1)) (by show o + 3 + 1 * a1 = _; omega) ?_
      refine v_iload F dX10_isBehind_58 rfl ?_
      refine v_bald F dX10_isBehind_60 (ae_X10_1 (i := a1) hX hp hi4 (v := ((o + 3) + a1)) (by omega)) hi5 ?_
      refine v_aload_n F dX10_isBehind_61 rfl rfl ?_
      refine v_iload F dX10_isBehind_62 rfl ?_
      refine v_bald F dX10_isBehind_64 hp3 hi5 ?_
      refine v_icmp_le F dX10_isBehind_65 rfl (fun hq8 => ?_) (fun hq8 => ?_)
      · rw [if_pos hq8] at h
        refine v_iconst F dX10_isBehind_72 ⟨by decide, by decide⟩ ?_
        cases h
        cases (show _ = r from K)
        exact v_zret F (Or.inl rfl) dX10_isBehind_73
      · rw [if_neg hq8] at h
        refine v_iconst F dX10_isBehind_68 ⟨by decide, by decide⟩ ?_
        refine v_goto F dX10_isBehind_69 rfl ?_
        cases h
        cases (show _ = r from K)
        exact v_zret F (Or.inr rfl) dX10_isBehind_73
theorem fX10_isBehind_29_ok {w : Wd} {l : Launch} {G : Cx} {d m dd : Dt} {o a1 a2 a3 a4 v5 : Int} {r : Int} {x : Int} (F : Fx w G cX10_isBehind RX10 6 (some .boolean) { frames := 0, cells := 0, slots := 0, locals := 0 }) (hX : WF dd m) (hp : PB m o 10) (hp3 : AR m a3 102 54) (h : fX10_isBehind_29 d o a1 a2 a3 a4 v5 = some x) (K : (fun q => q = r) x) : V w l WF G (QM w G WF (some (mI r)) d m 0 0) d m 0 0 29 [mA o, mI a1, mU, mA a3, mI a4, mI v5] [] := by
  unfold fX10_isBehind_29 at h
  exact loop_ok (P := fX10_isBehind_29P w l G (QM w G WF (some (mI r)) d m 0 0) m d o a1 a2 a3 a4) (fun s x hx h1 h2 => fX10_isBehind_29f_ok F hX hp hp3 hx (by
    cases x with
    | inl s' => exact h1 s' rfl
    | inr z => cases h2 z rfl; exact K)) h
theorem vm_X10_isBehind {w : Wd} {l : Launch} {d m : Dt} {o a1 a2 a3 a4 : Int} {r : Int} (hp : PB m o 10) (hp3 : AR m a3 102 54) (h : fX10_isBehind d o a1 a2 a3 a4 = some r) : VM w l WF yX10_isBehind cX10_isBehind 6 (some .boolean) 0 0 0 0 d m [mA o, mI a1, mI a2, mA a3, mI a4] (some (mI r)) d m := by
  obtain ⟨x, h, K⟩ : ∃ x, fX10_isBehind d o a1 a2 a3 a4 = some x ∧ x = r := ⟨_, h, rfl⟩
  refine VM.of (L := [mA o, mI a1, mI a2, mA a3, mI a4, mU]) (by decide +kernel) rfl (Nat.le_of_ble_eq_true rfl) fun G F _ => v_fact fun _ hX _ _ => ?_
  unfold fX10_isBehind at h
  refine v_aload_n F dX10_isBehind_0 rfl rfl ?_
  refine gf_X10_9 F dX10_isBehind_1 hp (v := (o + 1)) rfl ?_
  refine v_iload_n F dX10_isBehind_4 rfl rfl ?_
  obtain ⟨hi1, h⟩ := ck_some h
  refine v_iald F dX10_isBehind_5 (ar_X10_0 hX hp) hi1 ?_
  refine v_iload_n F dX10_isBehind_6 rfl rfl ?_
  refine v_icmp_eq F dX10_isBehind_7 rfl (fun hq2 => ?_) (fun hq2 => ?_)
  · rw [if_pos hq2] at h
    refine v_iconst F dX10_isBehind_26 ⟨by decide, by decide⟩ ?_
    refine v_istore F dX10_isBehind_27 (Nat.le_of_ble_eq_true rfl) (L' := [mA o, mI a1, mI a2, mA a3, mI a4, mI 0]) rfl ?_
    refine v_fgt (L' := [mA o, mI a1, mU, mA a3, mI a4, mI 0]) ⟨Or.inl rfl, Or.inl rfl, Or.inr rfl, Or.inl rfl, Or.inl rfl, Or.inl rfl, trivial⟩ ?_
    exact fX10_isBehind_29_ok F hX hp hp3 h K
  · rw [if_neg hq2] at h
    refine v_aload_n F dX10_isBehind_10 rfl rfl ?_
    refine gf_X10_9 F dX10_isBehind_11 hp (v := (o + 1)) rfl ?_
    refine v_iload_n F dX10_isBehind_14 rfl rfl ?_
    refine v_iald F dX10_isBehind_15 (ar_X10_0 hX hp) hi1 ?_
    refine v_iload_n F dX10_isBehind_16 rfl rfl ?_
    refine v_icmp_le F dX10_isBehind_17 rfl (fun hq9 => ?_) (fun hq9 => ?_)
    · rw [if_pos hq9] at h
      refine v_iconst F dX10_isBehind_24 ⟨by decide, by decide⟩ ?_
      cases h
      cases (show _ = r from K)
      exact v_zret F (Or.inl rfl) dX10_isBehind_25
    · rw [if_neg hq9] at h
      refine v_iconst F dX10_isBehind_20 ⟨by decide, by decide⟩ ?_
      refine v_goto F dX10_isBehind_21 rfl ?_
      cases h
      cases (show _ = r from K)
      exact v_zret F (Or.inr rfl) dX10_isBehind_25
def fX10_put_6P (w : Wd) (l : Launch) (G : Cx) (Q : State → Prop) (m : Dt) (o a1 a2 a3 : Int) (s : Dt × Int) : Prop := V w l WF G Q s.1 m 0 0 6 [mA o, mI a1, mA a2, mI a3, mI (s.2)] []
theorem fX10_put_70_ok {w : Wd} {l : Launch} {G : Cx} {d m dd : Dt} {o a1 a2 a3 v4 : Int} {d' : Dt} {x : Dt} (F : Fx w G cX10_put RX10 5 none { frames := 1, cells := 0, slots := 0, locals := 40 }) (hX : WF dd m) (hp : PB m o 10) (hp2 : AR m a2 102 54) (h : fX10_put_70 d o a1 a2 a3 v4 = some x) (K : (fun q => q = d') x) : V w l WF G (QM w G WF none d' m 0 0) d m 0 0 70 [mA o, mI a1, mA a2, mI a3, mI v4] [] := by
  unfold fX10_put_70 at h
  refine v_aload_n F dX10_put_70 rfl rfl ?_
  refine gf_X10_9 F dX10_put_71 hp (v := (o + 1)) rfl ?_
  refine v_iload F dX10_put_74 rfl ?_
  refine v_iload_n F dX10_put_76 rfl rfl ?_
  obtain ⟨hi3, h⟩ := ck_some h
  obtain ⟨d4, ed4, h⟩ := sd_some h
  refine v_iast F dX10_put_77 (ar_X10_0 hX hp) hi3 ?_
  refine v_nD ed4 ?_
  refine v_aload_n F dX10_put_78 rfl rfl ?_
  refine v_iconst F dX10_put_79 ⟨by decide, by decide⟩ ?_
  refine v_aload_n F dX10_put_80 rfl rfl ?_
  refine gf_X10_17 F dX10_put_81 hp (v := (o + 2)) rfl ?_
  refine v_iload F dX10_put_84 rfl ?_
  refine v_aaldF (c := 10) (k := 1) F dX10_put_86 hp (Nat.le_of_ble_eq_true rfl) (Nat.le_of_ble_eq_true rfl) (by decide) (by decide) rfl (ar_X10_1 hX hp) (Nat.le_of_ble_eq_true rfl) rfl rfl rfl rfl hi3 (v := ((o + 3) + v4)) (by show o + 3 + 1 * v4 = _; omega) ?_
  refine v_iconst F dX10_put_87 ⟨by decide, by decide⟩ ?_
  refine v_iload_n F dX10_put_88 rfl rfl ?_
  obtain ⟨hi6, h⟩ := ck_some h
  obtain ⟨d5, ed5, h⟩ := cd_some h
  refine v_copy (t := 102) F dX10_put_89 ca_X10_38 hp2 (ae_X10_1 (i := v4) hX hp hi3 (v := ((o + 3) + v4)) (by omega)) (Nat.le_of_ble_eq_true rfl) (Or.inr (Or.inl rfl)) rfl rfl hi6 rfl ?_
  refine v_nD ed5 ?_
  refine v_aload_n F dX10_put_92 rfl rfl ?_
  refine v_dup_A F dX10_put_93 ?_
  refine gf_X10_23 F dX10_put_94 hp ?_
  refine v_iconst F dX10_put_97 ⟨by decide, by decide⟩ ?_
  refine v_iadd F dX10_put_98 ?_
  obtain ⟨d7, ed7, h⟩ := sd_some h
  refine pf_X10_23 F dX10_put_99 hp ?_
  refine v_nD ed7 ?_
  cases h
  cases (show _ = d' from K)
  exact v_vret F dX10_put_102
theorem fX10_put_6f_ok {w : Wd} {l : Launch} {G : Cx} {m dd : Dt} {o a1 a2 a3 : Int} {d' : Dt} {s : Dt × Int} {x : ((Dt × Int) ⊕ Dt)} (F : Fx w G cX10_put RX10 5 none { frames := 1, cells := 0, slots := 0, locals := 40 }) (hX : WF dd m) (hp : PB m o 10) (hp2 : AR m a2 102 54) (h : fX10_put_6f o a1 a2 a3 s = some x) (K : (Sum.elim (fX10_put_6P w l G (QM w G WF none d' m 0 0) m o a1 a2 a3) (fun q => q = d')) x) : V w l WF G (QM w G WF none d' m 0 0) s.1 m 0 0 6 [mA o, mI a1, mA a2, mI a3, mI (s.2)] [] := by
  obtain ⟨d, v4⟩ := s
  unfold fX10_put_6f at h
  dsimp only at h
  refine v_iload F dX10_put_6 rfl ?_
  refine v_if_le F dX10_put_8 rfl (fun hq2 => ?_) (fun hq2 => ?_)
  · rw [if_pos hq2] at h
    obtain ⟨z, hu, ez⟩ := up_some h
    clear h
    subst ez
    have h := hu
    clear hu
    exact fX10_put_70_ok F hX hp hp2 h K
  · rw [if_neg hq2] at h
    refine v_aload_n F dX10_put_11 rfl rfl ?_
    refine v_iload F dX10_put_12 rfl ?_
    refine v_iconst F dX10_put_14 ⟨by decide, by decide⟩ ?_
    refine v_isub F dX10_put_15 ?_
    refine v_iload_n F dX10_put_16 rfl rfl ?_
    refine v_aload_n F dX10_put_17 rfl rfl ?_
    refine v_iload_n F dX10_put_18 rfl rfl ?_
    obtain ⟨x8, hc9, h⟩ := b1_some h
    refine v_callVv (c := 10) F dX10_put_19 cv_X10_34 rfl (PB.ob hp hX (Nat.le_of_ble_eq_true rfl)) (Nat.le_of_ble_eq_true rfl) rfl (vm_X10_isBehind hp hp2 hc9) rfl (rOk.of rfl) ?_
    refine v_if_eq F dX10_put_22 rfl (fun hq10 => ?_) (fun hq10 => ?_)
    · rw [if_pos hq10] at h
      obtain ⟨z, hu, ez⟩ := up_some h
      clear h
      subst ez
      have h := hu
      clear hu
      exact fX10_put_70_ok F hX hp hp2 h K
    · rw [if_neg hq10] at h
      refine v_aload_n F dX10_put_25 rfl rfl ?_
      refine gf_X10_9 F dX10_put_26 hp (v := (o + 1)) rfl ?_
      refine v_iload F dX10_put_29 rfl ?_
      refine v_aload_n F dX10_put_31 rfl rfl ?_
      refine gf_X10_9 F dX10_put_32 hp (v := (o + 1)) rfl ?_
      refine v_iload F dX10_put_35 rfl ?_
      refine v_iconst F dX10_put_37 ⟨by decide, by decide⟩ ?_
      refine v_isub F dX10_put_38 ?_
      obtain ⟨x11, ex11, h⟩ := lv_some h
      refine v_nI ex11 ?_
      obtain ⟨hi12, h⟩ := ck_some h
      refine v_iald F dX10_put_39 (ar_X10_0 hX hp) hi12 ?_
      obtain ⟨hi13, h⟩ := ck_some h
      obtain ⟨d14, ed14, h⟩ := sd_some h
      refine v_iast F dX10_put_40 (ar_X10_0 hX hp) hi13 ?_
      refine v_nD ed14 ?_
      refine v_aload_n F dX10_put_41 rfl rfl ?_
      refine gf_X10_17 F dX10_put_42 hp (v := (o + 2)) rfl ?_
      refine v_iload F dX10_put_45 rfl ?_
      refine v_iconst F dX10_put_47 ⟨by decide, by decide⟩ ?_
      refine v_isub F dX10_put_48 ?_
      obtain ⟨x15, ex15, h⟩ := lv_some h
      refine v_nI ex15 ?_
      obtain ⟨hi16, h⟩ := ck_some h
      refine v_aaldF (c := 10) (k := 1) F dX10_put_49 hp (Nat.le_of_ble_eq_true rfl) (Nat.le_of_ble_eq_true rfl) (by decide) (by decide) rfl (ar_X10_1 hX hp) (Nat.le_of_ble_eq_true rfl) rfl rfl rfl rfl hi16 (v := ((o + 3) + x15)) (by show o + 3 + 1 * x15 = _; omega) ?_
      refine v_iconst F dX10_put_50 ⟨by decide, by decide⟩ ?_
      refine v_aload_n F dX10_put_51 rfl rfl ?_
      refine gf_X10_17 F dX10_put_52 hp (v := (o + 2)) rfl ?_
      refine v_iload F dX10_put_55 rfl ?_
      refine v_aaldF (c := 10) (k := 1) F dX10_put_57 hp (Nat.le_of_ble_eq_true rfl) (Nat.le_of_ble_eq_true rfl) (by decide) (by decide) rfl (ar_X10_1 hX hp) (Nat.le_of_ble_eq_true rfl) rfl rfl rfl rfl hi13 (v := ((o + 3) + v4)) (by show o + 3 + 1 * v4 = _; omega) ?_
      refine v_iconst F dX10_put_58 ⟨by decide, by decide⟩ ?_
      refine v_bipush F dX10_put_59 rfl ⟨by decide, by decide⟩ ?_
      obtain ⟨d17, ed17, h⟩ := cd_some h
      refine v_copy (t := 102) F dX10_put_61 ca_X10_38 (ae_X10_1 (i := x15) hX hp hi16 (v := ((o + 3) + x15)) (by omega)) (ae_X10_1 (i := v4) hX hp hi13 (v := ((o + 3) + v4)) (by omega)) (Nat.le_of_ble_eq_true rfl) (Or.inr (Or.inl rfl)) rfl rfl ⟨by decide, by decide, by decide, by decide, by decide⟩ rfl ?_
      refine v_nD ed17 ?_
      obtain ⟨x18, ex18, h⟩ := lv_some h
      refine v_iincN F dX10_put_64 (Nat.le_of_ble_eq_true rfl) rfl ex18 (L' := [mA o, mI a1, mA a2, mI a3, mI x18]) rfl ?_
      refine v_goto F dX10_put_67 rfl ?_
      cases h
      exact K
theorem fX10_put_6_ok {w : Wd} {l : Launch} {G : Cx} {d m dd : Dt} {o a1 a2 a3 v4 : Int} {d' : Dt} {x : Dt} (F : Fx w G cX10_put RX10 5 none { frames := 1, cells := 0, slots := 0, locals := 40 }) (hX : WF dd m) (hp : PB m o 10) (hp2 : AR m a2 102 54) (h : fX10_put_6 d o a1 a2 a3 v4 = some x) (K : (fun q => q = d') x) : V w l WF G (QM w G WF none d' m 0 0) d m 0 0 6 [mA o, mI a1, mA a2, mI a3, mI v4] [] := by
  unfold fX10_put_6 at h
  exact loop_ok (P := fX10_put_6P w l G (QM w G WF none d' m 0 0) m o a1 a2 a3) (fun s x hx h1 h2 => fX10_put_6f_ok F hX hp hp2 hx (by
    cases x with
    | inl s' => exact h1 s' rfl
    | inr z => cases h2 z rfl; exact K)) h
theorem vm_X10_put {w : Wd} {l : Launch} {d m : Dt} {o a1 a2 a3 : Int} {d' : Dt} (hp : PB m o 10) (hp2 : AR m a2 102 54) (h : fX10_put d o a1 a2 a3 = some d') : VM w l WF yX10_put cX10_put 5 none 1 40 0 0 d m [mA o, mI a1, mA a2, mI a3] none d' m := by
  obtain ⟨x, h, K⟩ : ∃ x, fX10_put d o a1 a2 a3 = some x ∧ x = d' := ⟨_, h, rfl⟩
  refine VM.of (L := [mA o, mI a1, mA a2, mI a3, mU]) (by decide +kernel) rfl (Nat.le_of_ble_eq_true rfl) fun G F _ => v_fact fun _ hX _ _ => ?_
  unfold fX10_put at h
  refine v_aload_n F dX10_put_0 rfl rfl ?_
  refine gf_X10_23 F dX10_put_1 hp ?_
  obtain ⟨x1, ex1, h⟩ := lv_some h
  refine v_nI ex1 ?_
  refine v_istore F dX10_put_4 (Nat.le_of_ble_eq_true rfl) (L' := [mA o, mI a1, mA a2, mI a3, mI x1]) rfl ?_
  exact fX10_put_6_ok F hX hp hp2 h K
theorem vm_X0_intoBox {w : Wd} {l : Launch} {d m : Dt} {a1 : Int} {d' : Dt} (hp : PB m 1 0) (hp1 : PB m a1 14) (h : fX0_intoBox d a1 = some d') : VM w l WF yX0_intoBox cX0_intoBox 2 none 2 64 0 0 d m [mA 1, mA a1] none d' m := by
  obtain ⟨x, h, K⟩ : ∃ x, fX0_intoBox d a1 = some x ∧ x = d' := ⟨_, h, rfl⟩
  refine VM.of (L := [mA 1, mA a1]) (by decide +kernel) rfl (Nat.le_of_ble_eq_true rfl) fun G F _ => v_fact fun _ hX _ _ => ?_
  unfold fX0_intoBox at h
  refine v_aload_n F dX0_intoBox_0 rfl rfl ?_
  refine v_iconst F dX0_intoBox_1 ⟨by decide, by decide⟩ ?_
  obtain ⟨d1, ed1, h⟩ := sd_some h
  refine pf_X0_445 F dX0_intoBox_2 hp1 ?_
  refine v_nD ed1 ?_
  refine v_aload_n F dX0_intoBox_5 rfl rfl ?_
  refine gf_X0_120 F dX0_intoBox_6 hp (v := 78) rfl ?_
  refine v_aload_n F dX0_intoBox_9 rfl rfl ?_
  refine gf_X0_442 F dX0_intoBox_10 hp1 ?_
  obtain ⟨x2, ex2, h⟩ := lv_some h
  refine v_nI ex2 ?_
  obtain ⟨hi3, h⟩ := ck_some h
  refine v_aaldF (c := 0) (k := 34) F dX0_intoBox_13 hp (Nat.le_of_ble_eq_true rfl) (Nat.le_of_ble_eq_true rfl) (by decide) (by decide) rfl (ar_X0_34 hX hp) (Nat.le_of_ble_eq_true rfl) rfl rfl rfl rfl hi3 (v := (677 + 124 * x2)) (by show 1 + 676 + 124 * x2 = _; omega) ?_
  refine v_aload_n F dX0_intoBox_14 rfl rfl ?_
  refine gf_X0_462 F dX0_intoBox_15 hp1 ?_
  refine v_aload_n F dX0_intoBox_18 rfl rfl ?_
  refine gf_X0_465 F dX0_intoBox_19 hp1 (v := (a1 + 1)) rfl ?_
  refine v_aload_n F dX0_intoBox_22 rfl rfl ?_
  refine v_aload_n F dX0_intoBox_23 rfl rfl ?_
  refine gf_X0_462 F dX0_intoBox_24 hp1 ?_
  obtain ⟨x4, hc5, h⟩ := b1_some h
  refine v_callVv (c := 0) F dX0_intoBox_27 cv_X0_468 rfl (PB.ob hp hX (Nat.le_of_ble_eq_true rfl)) (Nat.le_of_ble_eq_true rfl) rfl (vm_X0_fieldsOf hp hc5) rfl (rOk.of rfl) ?_
  obtain ⟨d6, hc7, h⟩ := bd_some h
  refine v_callV0 (c := 10) F dX0_intoBox_30 cv_X0_471 rfl (PB.ob (ae_X0_34 (i := x2) hX hp hi3 (v := (677 + 124 * x2)) (by omega)) hX (Nat.le_of_ble_eq_true rfl)) (Nat.le_of_ble_eq_true rfl) rfl (vm_X10_put (ae_X0_34 (i := x2) hX hp hi3 (v := (677 + 124 * x2)) (by omega)) (ar_X15_7 hX hp1) hc7) rfl (rOk.of rfl) ?_
  cases h
  cases (show _ = d' from K)
  exact v_vret F dX0_intoBox_33
def fX0_mend_40P (w : Wd) (l : Launch) (G : Cx) (Q : State → Prop) (m : Dt) (a1 v2 : Int) (s : Dt × Int × Int) : Prop := V w l WF G Q s.1 m 0 0 40 [mA 1, mI a1, mI v2, mI (s.2.1), mI (s.2.2), mU, mU] []
theorem fX0_mend_95_ok {w : Wd} {l : Launch} {G : Cx} {d m dd : Dt} {a1 v2 v4 v5 s0 s1 : Int} {d' : Dt} {r : Int} {x : ((Dt × Int × Int) ⊕ (Dt × Int))} (F : Fx w G cX0_mend RX0 7 (some .int) { frames := 4, cells := 0, slots := 0, locals := 115 }) (hX : WF dd m) (hp : PB m 1 0) (hv5 : PB m v5 14) (h : fX0_mend_95 d a1 v2 v4 v5 s0 s1 = some x) (K : (Sum.elim (fX0_mend_40P w l G (QM w G WF (some (mI r)) d' m 0 0) m a1 v2) (fun q => q = (d', r))) x) : V w l WF G (QM w G WF (some (mI r)) d' m 0 0) d m 0 0 95 [mA 1, mI a1, mI v2, mU, mI v4, mA v5, mU] [mI s1, mI s0] := by
  unfold fX0_mend_95 at h
  refine v_iadd F dX0_mend_95 ?_
  obtain ⟨x18, ex18, h⟩ := lv_some h
  refine v_nI ex18 ?_
  refine v_istore_n F dX0_mend_96 rfl (Nat.le_of_ble_eq_true rfl) (L' := [mA 1, mI a1, mI v2, mI x18, mI v4, mA v5, mU]) rfl ?_
  refine v_aload F dX0_mend_97 rfl ?_
  refine gf_X0_445 F dX0_mend_99 hv5 ?_
  refine v_iconst F dX0_mend_102 ⟨by decide, by decide⟩ ?_
  refine v_icmp_ne F dX0_mend_103 rfl (fun hq19 => ?_) (fun hq19 => ?_)
  · rw [if_neg hq19] at h
    obtain ⟨x20, ex20, h⟩ := lv_some h
    refine v_iincN F dX0_mend_112 (Nat.le_of_ble_eq_true rfl) rfl ex20 (L' := [mA 1, mI a1, mI v2, mI x18, mI x20, mA v5, mU]) rfl ?_
    refine v_goto F dX0_mend_115 rfl ?_
    cases h
    refine v_fgt (L' := [mA 1, mI a1, mI v2, mI x18, mI x20, mU, mU]) ⟨Or.inl rfl, Or.inl rfl, Or.inl rfl, Or.inl rfl, Or.inl rfl, Or.inr rfl, Or.inl rfl, trivial⟩ ?_
    exact K
  · rw [if_pos hq19] at h
    refine v_aload_n F dX0_mend_106 rfl rfl ?_
    refine v_aload F dX0_mend_107 rfl ?_
    obtain ⟨d21, hc22, h⟩ := bd_some h
    refine v_callV0 (c := 0) F dX0_mend_109 cv_X0_482 rfl (PB.ob hp hX (Nat.le_of_ble_eq_true rfl)) (Nat.le_of_ble_eq_true rfl) rfl (vm_X0_intoBox hp hv5 hc22) rfl (rOk.of rfl) ?_
    obtain ⟨x23, ex23, h⟩ := lv_some h
    refine v_iincN F dX0_mend_112 (Nat.le_of_ble_eq_true rfl) rfl ex23 (L' := [mA 1, mI a1, mI v2, mI x18, mI x23, mA v5, mU]) rfl ?_
    refine v_goto F dX0_mend_115 rfl ?_
    cases h
    refine v_fgt (L' := [mA 1, mI a1, mI v2, mI x18, mI x23, mU, mU]) ⟨Or.inl rfl, Or.inl rfl, Or.inl rfl, Or.inl rfl, Or.inl rfl, Or.inr rfl, Or.inl rfl, trivial⟩ ?_
    exact K
theorem fX0_mend_76_ok {w : Wd} {l : Launch} {G : Cx} {d m dd : Dt} {a1 v2 v3 v4 v5 v6 : Int} {d' : Dt} {r : Int} {x : ((Dt × Int × Int) ⊕ (Dt × Int))} (F : Fx w G cX0_mend RX0 7 (some .int) { frames := 4, cells := 0, slots := 0, locals := 115 }) (hX : WF dd m) (hp : PB m 1 0) (hv5 : PB m v5 14) (h : fX0_mend_76 d a1 v2 v3 v4 v5 v6 = some x) (K : (Sum.elim (fX0_mend_40P w l G (QM w G WF (some (mI r)) d' m 0 0) m a1 v2) (fun q => q = (d', r))) x) : V w l WF G (QM w G WF (some (mI r)) d' m 0 0) d m 0 0 76 [mA 1, mI a1, mI v2, mI v3, mI v4, mA v5, mI v6] [] := by
  unfold fX0_mend_76 at h
  refine v_iload_n F dX0_mend_76 rfl rfl ?_
  refine v_iload F dX0_mend_77 rfl ?_
  refine v_if_eq F dX0_mend_79 rfl (fun hq17 => ?_) (fun hq17 => ?_)
  · rw [if_pos hq17] at h
    refine v_iconst F dX0_mend_94 ⟨by decide, by decide⟩ ?_
    refine v_fgt (L' := [mA 1, mI a1, mI v2, mU, mI v4, mA v5, mU]) ⟨Or.inl rfl, Or.inl rfl, Or.inl rfl, Or.inr rfl, Or.inl rfl, Or.inl rfl, Or.inr rfl, trivial⟩ ?_
    exact fX0_mend_95_ok F hX hp hv5 h K
  · rw [if_neg hq17] at h
    refine v_aload F dX0_mend_82 rfl ?_
    refine v_callVv (c := 14) F dX0_mend_84 cv_X0_450 rfl (PB.ob hv5 hX (Nat.le_of_ble_eq_true rfl)) (Nat.le_of_ble_eq_true rfl) rfl (vm_X15_lives hv5) rfl (rOk.of rfl) ?_
    refine v_if_ne F dX0_mend_87 rfl (fun hq24 => ?_) (fun hq24 => ?_)
    · rw [if_neg hq24] at h
      refine v_iconst F dX0_mend_94 ⟨by decide, by decide⟩ ?_
      refine v_fgt (L' := [mA 1, mI a1, mI v2, mU, mI v4, mA v5, mU]) ⟨Or.inl rfl, Or.inl rfl, Or.inl rfl, Or.inr rfl, Or.inl rfl, Or.inl rfl, Or.inr rfl, trivial⟩ ?_
      exact fX0_mend_95_ok F hX hp hv5 h K
    · rw [if_pos hq24] at h
      refine v_iconst F dX0_mend_90 ⟨by decide, by decide⟩ ?_
      refine v_goto F dX0_mend_91 rfl ?_
      refine v_fgt (L' := [mA 1, mI a1, mI v2, mU, mI v4, mA v5, mU]) ⟨Or.inl rfl, Or.inl rfl, Or.inl rfl, Or.inr rfl, Or.inl rfl, Or.inl rfl, Or.inr rfl, trivial⟩ ?_
      exact fX0_mend_95_ok F hX hp hv5 h K
theorem fX0_mend_40f_ok {w : Wd} {l : Launch} {G : Cx} {m dd : Dt} {a1 v2 : Int} {d' : Dt} {r : Int} {s : Dt × Int × Int} {x : ((Dt × Int × Int) ⊕ (Dt × Int))} (F : Fx w G cX0_mend RX0 7 (some .int) { frames := 4, cells := 0, slots := 0, locals := 115 }) (hX : WF dd m) (hp : PB m 1 0) (h : fX0_mend_40f a1 v2 s = some x) (K : (Sum.elim (fX0_mend_40P w l G (QM w G WF (some (mI r)) d' m 0 0) m a1 v2) (fun q => q = (d', r))) x) : V w l WF G (QM w G WF (some (mI r)) d' m 0 0) s.1 m 0 0 40 [mA 1, mI a1, mI v2, mI (s.2.1), mI (s.2.2), mU, mU] [] := by
  obtain ⟨d, v3, v4⟩ := s
  unfold fX0_mend_40f at h
  dsimp only at h
  refine v_iload F dX0_mend_40 rfl ?_
  refine v_iload_n F dX0_mend_42 rfl rfl ?_
  refine v_icmp_ge F dX0_mend_43 rfl (fun hq8 => ?_) (fun hq8 => ?_)
  · rw [if_pos hq8] at h
    obtain ⟨z, hu, ez⟩ := up_some h
    clear h
    subst ez
    have h := hu
    clear hu
    refine v_aload_n F dX0_mend_118 rfl rfl ?_
    refine v_bipush F dX0_mend_119 rfl ⟨by decide, by decide⟩ ?_
    refine v_iload_n F dX0_mend_121 rfl rfl ?_
    refine v_iconst F dX0_mend_122 ⟨by decide, by decide⟩ ?_
    refine v_iconst F dX0_mend_123 ⟨by decide, by decide⟩ ?_
    refine v_iconst F dX0_mend_124 ⟨by decide, by decide⟩ ?_
    obtain ⟨d9, hc10, h⟩ := bd_some h
    refine v_callV0 (c := 0) F dX0_mend_125 cv_X0_173 rfl (PB.ob hp hX (Nat.le_of_ble_eq_true rfl)) (Nat.le_of_ble_eq_true rfl) rfl (vm_X0_write hp hc10) rfl (rOk.of rfl) ?_
    refine v_iload_n F dX0_mend_128 rfl rfl ?_
    cases h
    cases (show _ = (d', r) from K)
    exact v_iret F dX0_mend_129
  · rw [if_neg hq8] at h
    refine v_aload_n F dX0_mend_46 rfl rfl ?_
    refine gf_X0_115 F dX0_mend_47 hp (v := 77) rfl ?_
    refine v_iload F dX0_mend_50 rfl ?_
    obtain ⟨hi11, h⟩ := ck_some h
    obtain ⟨x12, ex12, h⟩ := lv_some h
    obtain ⟨hn14, h⟩ := ck_some h
    refine v_aaldN (t := 112) (c := 14) F dX0_mend_52 (ar_X0_33 hX hp) (Nat.le_of_ble_eq_true rfl) rfl rfl rfl rfl rfl hi11 ex12 fun hr13 => ?_
    have x12p := hr13.resolve_left hn14
    refine v_astore F dX0_mend_53 (Nat.le_of_ble_eq_true rfl) (L' := [mA 1, mI a1, mI v2, mI v3, mI v4, mA x12, mU]) rfl ?_
    refine v_aload F dX0_mend_55 rfl ?_
    refine v_callVv (c := 14) F dX0_mend_57 cv_X0_450 rfl (PB.ob x12p hX (Nat.le_of_ble_eq_true rfl)) (Nat.le_of_ble_eq_true rfl) rfl (vm_X15_lives x12p) rfl (rOk.of rfl) ?_
    obtain ⟨x15, ex15, h⟩ := lv_some h
    refine v_nI ex15 ?_
    refine v_istore F dX0_mend_60 (Nat.le_of_ble_eq_true rfl) (L' := [mA 1, mI a1, mI v2, mI v3, mI v4, mA x12, mI x15]) rfl ?_
    refine v_aload F dX0_mend_62 rfl ?_
    refine gf_X0_446 F dX0_mend_64 x12p ?_
    refine v_if_ne F dX0_mend_67 rfl (fun hq16 => ?_) (fun hq16 => ?_)
    · rw [if_neg hq16] at h
      exact fX0_mend_76_ok F hX hp x12p h K
    · rw [if_pos hq16] at h
      refine v_aload_n F dX0_mend_70 rfl rfl ?_
      refine v_aload F dX0_mend_71 rfl ?_
      obtain ⟨d25, hc26, h⟩ := bd_some h
      refine v_callV0 (c := 0) F dX0_mend_73 cv_X0_478 rfl (PB.ob hp hX (Nat.le_of_ble_eq_true rfl)) (Nat.le_of_ble_eq_true rfl) rfl (vm_X0_settle hp x12p hc26) rfl (rOk.of rfl) ?_
      exact fX0_mend_76_ok F hX hp x12p h K
theorem fX0_mend_40_ok {w : Wd} {l : Launch} {G : Cx} {d m dd : Dt} {a1 v2 v3 v4 : Int} {d' : Dt} {r : Int} {x : (Dt × Int)} (F : Fx w G cX0_mend RX0 7 (some .int) { frames := 4, cells := 0, slots := 0, locals := 115 }) (hX : WF dd m) (hp : PB m 1 0) (h : fX0_mend_40 d a1 v2 v3 v4 = some x) (K : (fun q => q = (d', r)) x) : V w l WF G (QM w G WF (some (mI r)) d' m 0 0) d m 0 0 40 [mA 1, mI a1, mI v2, mI v3, mI v4, mU, mU] [] := by
  unfold fX0_mend_40 at h
  exact loop_ok (P := fX0_mend_40P w l G (QM w G WF (some (mI r)) d' m 0 0) m a1 v2) (fun s x hx h1 h2 => fX0_mend_40f_ok F hX hp hx (by
    cases x with
    | inl s' => exact h1 s' rfl
    | inr z => cases h2 z rfl; exact K)) h
theorem vm_X0_mend {w : Wd} {l : Launch} {d m : Dt} {a1 : Int} {d' : Dt} {r : Int} (hp : PB m 1 0) (h : fX0_mend d a1 = some (d', r)) : VM w l WF yX0_mend cX0_mend 7 (some .int) 4 115 0 0 d m [mA 1, mI a1] (some (mI r)) d' m := by
  obtain ⟨x, h, K⟩ : ∃ x, fX0_mend d a1 = some x ∧ x = (d', r) := ⟨_, h, rfl⟩
  refine VM.of (L := [mA 1, mI a1, mU, mU, mU, mU, mU]) (by decide +kernel) rfl (Nat.le_of_ble_eq_true rfl) fun G F _ => v_fact fun _ hX _ _ => ?_
  unfold fX0_mend at h
  refine v_aload_n F dX0_mend_0 rfl rfl ?_
  refine v_iload_n F dX0_mend_1 rfl rfl ?_
  refine v_callVv (c := 0) F dX0_mend_2 cv_X0_430 rfl (PB.ob hp hX (Nat.le_of_ble_eq_true rfl)) (Nat.le_of_ble_eq_true rfl) rfl (vm_X0_isStation hp) rfl (rOk.of rfl) ?_
  refine v_if_ne F dX0_mend_5 rfl (fun hq1 => ?_) (fun hq1 => ?_)
  · rw [if_neg hq1] at h
    refine v_aload_n F dX0_mend_10 rfl rfl ?_
    refine gf_X0_101 F dX0_mend_11 hp (v := 68) rfl ?_
    refine v_iload_n F dX0_mend_14 rfl rfl ?_
    obtain ⟨hi2, h⟩ := ck_some h
    refine v_zald F dX0_mend_15 (ar_X0_28 hX hp) hi2 ?_
    refine v_if_ne F dX0_mend_16 rfl (fun hq3 => ?_) (fun hq3 => ?_)
    · rw [if_neg hq3] at h
      refine v_aload_n F dX0_mend_22 rfl rfl ?_
      refine gf_X0_101 F dX0_mend_23 hp (v := 68) rfl ?_
      refine v_iload_n F dX0_mend_26 rfl rfl ?_
      refine v_iconst F dX0_mend_27 ⟨by decide, by decide⟩ ?_
      obtain ⟨d4, ed4, h⟩ := sd_some h
      refine v_zast F dX0_mend_28 (ar_X0_28 hX hp) hi2 ?_
      refine v_nD ed4 ?_
      refine v_aload_n F dX0_mend_29 rfl rfl ?_
      refine v_iload_n F dX0_mend_30 rfl rfl ?_
      obtain ⟨d5, x7, hc6, h⟩ := b2_some h
      refine v_callVv (c := 0) F dX0_mend_31 cv_X0_475 rfl (PB.ob hp hX (Nat.le_of_ble_eq_true rfl)) (Nat.le_of_ble_eq_true rfl) rfl (vm_X0_sortIssues hp hc6) rfl (rOk.of rfl) ?_
      refine v_istore_n F dX0_mend_34 rfl (Nat.le_of_ble_eq_true rfl) (L' := [mA 1, mI a1, mI x7, mU, mU, mU, mU]) rfl ?_
      refine v_iconst F dX0_mend_35 ⟨by decide, by decide⟩ ?_
      refine v_istore_n F dX0_mend_36 rfl (Nat.le_of_ble_eq_true rfl) (L' := [mA 1, mI a1, mI x7, mI 0, mU, mU, mU]) rfl ?_
      refine v_iconst F dX0_mend_37 ⟨by decide, by decide⟩ ?_
      refine v_istore F dX0_mend_38 (Nat.le_of_ble_eq_true rfl) (L' := [mA 1, mI a1, mI x7, mI 0, mI 0, mU, mU]) rfl ?_
      exact fX0_mend_40_ok F hX hp h K
    · rw [if_pos hq3] at h
      refine v_bipush F dX0_mend_19 rfl ⟨by decide, by decide⟩ ?_
      cases h
      cases (show _ = (d', r) from K)
      exact v_iret F dX0_mend_21
  · rw [if_pos hq1] at h
    refine v_iconst F dX0_mend_8 ⟨by decide, by decide⟩ ?_
    cases h
    cases (show _ = (d', r) from K)
    exact v_iret F dX0_mend_9
def fX11_voidsOf_4P (w : Wd) (l : Launch) (G : Cx) (Q : State → Prop) (m : Dt) (d : Dt) (a1 : Int) (s : Int × Int) : Prop := V w l WF G Q d m 0 0 4 [mA 1545, mI a1, mI (s.1), mI (s.2)] []
theorem fX11_voidsOf_38_ok {w : Wd} {l : Launch} {G : Cx} {d m dd : Dt} {a1 v3 s0 s1 : Int} {r : Int} {x : ((Int × Int) ⊕ Int)} (F : Fx w G cX11_voidsOf RX11 4 (some .int) { frames := 0, cells := 0, slots := 0, locals := 0 }) (hX : WF dd m) (hp : PB m 1545 11) (h : fX11_voidsOf_38 d a1 v3 s0 s1 = some x) (K : (Sum.elim (fX11_voidsOf_4P w l G (QM w G WF (some (mI r)) d m 0 0) m d a1) (fun q => q = r)) x) : V w l WF G (QM w G WF (some (mI r)) d m 0 0) d m 0 0 38 [mA 1545, mI a1, mU, mI v3] [mI s1, mI s0] := by
  unfold fX11_voidsOf_38 at h
  refine v_iadd F dX11_voidsOf_38 ?_
  obtain ⟨x4, ex4, h⟩ := lv_some h
  refine v_nI ex4 ?_
  refine v_istore_n F dX11_voidsOf_39 rfl (Nat.le_of_ble_eq_true rfl) (L' := [mA 1545, mI a1, mI x4, mI v3]) rfl ?_
  obtain ⟨x5, ex5, h⟩ := lv_some h
  refine v_iincN F dX11_voidsOf_40 (Nat.le_of_ble_eq_true rfl) rfl ex5 (L' := [mA 1545, mI a1, mI x4, mI x5]) rfl ?_
  refine v_goto F dX11_voidsOf_43 rfl ?_
  cases h
  exact K
theorem fX11_voidsOf_4f_ok {w : Wd} {l : Launch} {G : Cx} {d m dd : Dt} {a1 : Int} {r : Int} {s : Int × Int} {x : ((Int × Int) ⊕ Int)} (F : Fx w G cX11_voidsOf RX11 4 (some .int) { frames := 0, cells := 0, slots := 0, locals := 0 }) (hX : WF dd m) (hp : PB m 1545 11) (h : fX11_voidsOf_4f d a1 s = some x) (K : (Sum.elim (fX11_voidsOf_4P w l G (QM w G WF (some (mI r)) d m 0 0) m d a1) (fun q => q = r)) x) : V w l WF G (QM w G WF (some (mI r)) d m 0 0) d m 0 0 4 [mA 1545, mI a1, mI (s.1), mI (s.2)] [] := by
  obtain ⟨v2, v3⟩ := s
  unfold fX11_voidsOf_4f at h
  dsimp only at h
  refine v_iload_n F dX11_voidsOf_4 rfl rfl ?_
  refine v_aload_n F dX11_voidsOf_5 rfl rfl ?_
  refine gf_X11_543 F dX11_voidsOf_6 hp ?_
  refine v_icmp_ge F dX11_voidsOf_9 rfl (fun hq1 => ?_) (fun hq1 => ?_)
  · rw [if_pos hq1] at h
    obtain ⟨z, hu, ez⟩ := up_some h
    clear h
    subst ez
    have h := hu
    clear hu
    refine v_iload_n F dX11_voidsOf_46 rfl rfl ?_
    cases h
    cases (show _ = r from K)
    exact v_iret F dX11_voidsOf_47
  · rw [if_neg hq1] at h
    refine v_iload_n F dX11_voidsOf_12 rfl rfl ?_
    refine v_aload_n F dX11_voidsOf_13 rfl rfl ?_
    refine gf_X11_661 F dX11_voidsOf_14 hp (v := 1604) rfl ?_
    refine v_iload_n F dX11_voidsOf_17 rfl rfl ?_
    obtain ⟨hi2, h⟩ := ck_some h
    refine v_iald F dX11_voidsOf_18 (ar_X11_84 hX hp) hi2 ?_
    refine v_iload_n F dX11_voidsOf_19 rfl rfl ?_
    refine v_icmp_ne F dX11_voidsOf_20 rfl (fun hq3 => ?_) (fun hq3 => ?_)
    · rw [if_neg hq3] at h
      refine v_iconst F dX11_voidsOf_37 ⟨by decide, by decide⟩ ?_
      refine v_fgt (L' := [mA 1545, mI a1, mU, mI v3]) ⟨Or.inl rfl, Or.inl rfl, Or.inr rfl, Or.inl rfl, trivial⟩ ?_
      exact fX11_voidsOf_38_ok F hX hp h K
    · rw [if_pos hq3] at h
      refine v_aload_n F dX11_voidsOf_23 rfl rfl ?_
      refine gf_X11_658 F dX11_voidsOf_24 hp (v := 1605) rfl ?_
      refine v_iload_n F dX11_voidsOf_27 rfl rfl ?_
      refine v_iald F dX11_voidsOf_28 (ar_X11_85 hX hp) hi2 ?_
      refine v_iconst F dX11_voidsOf_29 ⟨by decide, by decide⟩ ?_
      refine v_icmp_ne F dX11_voidsOf_30 rfl (fun hq6 => ?_) (fun hq6 => ?_)
      · rw [if_neg hq6] at h
        refine v_iconst F dX11_voidsOf_37 ⟨by decide, by decide⟩ ?_
        refine v_fgt (L' := [mA 1545, mI a1, mU, mI v3]) ⟨Or.inl rfl, Or.inl rfl, Or.inr rfl, Or.inl rfl, trivial⟩ ?_
        exact fX11_voidsOf_38_ok F hX hp h K
      · rw [if_pos hq6] at h
        refine v_iconst F dX11_voidsOf_33 ⟨by decide, by decide⟩ ?_
        refine v_goto F dX11_voidsOf_34 rfl ?_
        refine v_fgt (L' := [mA 1545, mI a1, mU, mI v3]) ⟨Or.inl rfl, Or.inl rfl, Or.inr rfl, Or.inl rfl, trivial⟩ ?_
        exact fX11_voidsOf_38_ok F hX hp h K
theorem fX11_voidsOf_4_ok {w : Wd} {l : Launch} {G : Cx} {d m dd : Dt} {a1 v2 v3 : Int} {r : Int} {x : Int} (F : Fx w G cX11_voidsOf RX11 4 (some .int) { frames := 0, cells := 0, slots := 0, locals := 0 }) (hX : WF dd m) (hp : PB m 1545 11) (h : fX11_voidsOf_4 d a1 v2 v3 = some x) (K : (fun q => q = r) x) : V w l WF G (QM w G WF (some (mI r)) d m 0 0) d m 0 0 4 [mA 1545, mI a1, mI v2, mI v3] [] := by
  unfold fX11_voidsOf_4 at h
  exact loop_ok (P := fX11_voidsOf_4P w l G (QM w G WF (some (mI r)) d m 0 0) m d a1) (fun s x hx h1 h2 => fX11_voidsOf_4f_ok F hX hp hx (by
    cases x with
    | inl s' => exact h1 s' rfl
    | inr z => cases h2 z rfl; exact K)) h
theorem vm_X11_voidsOf {w : Wd} {l : Launch} {d m : Dt} {a1 : Int} {r : Int} (hp : PB m 1545 11) (h : fX11_voidsOf d a1 = some r) : VM w l WF yX11_voidsOf cX11_voidsOf 4 (some .int) 0 0 0 0 d m [mA 1545, mI a1] (some (mI r)) d m := by
  obtain ⟨x, h, K⟩ : ∃ x, fX11_voidsOf d a1 = some x ∧ x = r := ⟨_, h, rfl⟩
  refine VM.of (L := [mA 1545, mI a1, mU, mU]) (by decide +kernel) rfl (Nat.le_of_ble_eq_true rfl) fun G F _ => v_fact fun _ hX _ _ => ?_
  unfold fX11_voidsOf at h
  refine v_iconst F dX11_voidsOf_0 ⟨by decide, by decide⟩ ?_
  refine v_istore_n F dX11_voidsOf_1 rfl (Nat.le_of_ble_eq_true rfl) (L' := [mA 1545, mI a1, mI 0, mU]) rfl ?_
  refine v_iconst F dX11_voidsOf_2 ⟨by decide, by decide⟩ ?_
  refine v_istore_n F dX11_voidsOf_3 rfl (Nat.le_of_ble_eq_true rfl) (L' := [mA 1545, mI a1, mI 0, mI 0]) rfl ?_
  exact fX11_voidsOf_4_ok F hX hp h K
theorem vm_X11_isBehind {w : Wd} {l : Launch} {d m : Dt} {a1 a2 : Int} {r : Int} (hp : PB m 1545 11) (h : fX11_isBehind d a1 a2 = some r) : VM w l WF yX11_isBehind cX11_isBehind 3 (some .boolean) 0 0 0 0 d m [mA 1545, mI a1, mI a2] (some (mI r)) d m := by
  obtain ⟨x, h, K⟩ : ∃ x, fX11_isBehind d a1 a2 = some x ∧ x = r := ⟨_, h, rfl⟩
  refine VM.of (L := [mA 1545, mI a1, mI a2]) (by decide +kernel) rfl (Nat.le_of_ble_eq_true rfl) fun G F _ => v_fact fun _ hX _ _ => ?_
  unfold fX11_isBehind at h
  refine v_aload_n F dX11_isBehind_0 rfl rfl ?_
  refine gf_X11_673 F dX11_isBehind_1 hp (v := 1606) rfl ?_
  refine v_iload_n F dX11_isBehind_4 rfl rfl ?_
  obtain ⟨hi1, h⟩ := ck_some h
  refine v_iald F dX11_isBehind_5 (ar_X11_86 hX hp) hi1 ?_
  refine v_aload_n F dX11_isBehind_6 rfl rfl ?_
  refine gf_X11_673 F dX11_isBehind_7 hp (v := 1606) rfl ?_
  refine v_iload_n F dX11_isBehind_10 rfl rfl ?_
  obtain ⟨hi2, h⟩ := ck_some h
  refine v_iald F dX11_isBehind_11 (ar_X11_86 hX hp) hi2 ?_
  refine v_icmp_eq F dX11_isBehind_12 rfl (fun hq3 => ?_) (fun hq3 => ?_)
  · rw [if_pos hq3] at h
    refine v_aload_n F dX11_isBehind_36 rfl rfl ?_
    refine gf_X11_661 F dX11_isBehind_37 hp (v := 1604) rfl ?_
    refine v_iload_n F dX11_isBehind_40 rfl rfl ?_
    refine v_iald F dX11_isBehind_41 (ar_X11_84 hX hp) hi1 ?_
    refine v_aload_n F dX11_isBehind_42 rfl rfl ?_
    refine gf_X11_661 F dX11_isBehind_43 hp (v := 1604) rfl ?_
    refine v_iload_n F dX11_isBehind_46 rfl rfl ?_
    refine v_iald F dX11_isBehind_47 (ar_X11_84 hX hp) hi2 ?_
    refine v_icmp_eq F dX11_isBehind_48 rfl (fun hq4 => ?_) (fun hq4 => ?_)
    · rw [if_pos hq4] at h
      refine v_iload_n F dX11_isBehind_72 rfl rfl ?_
      refine v_iload_n F dX11_isBehind_73 rfl rfl ?_
      refine v_icmp_le F dX11_isBehind_74 rfl (fun hq5 => ?_) (fun hq5 => ?_)
      · rw [if_pos hq5] at h
        refine v_iconst F dX11_isBehind_81 ⟨by decide, by decide⟩ ?_
        cases h
        cases (show _ = r from K)
        exact v_zret F (Or.inl rfl) dX11_isBehind_82
      · rw [if_neg hq5] at h
        refine v_iconst F dX11_isBehind_77 ⟨by decide, by decide⟩ ?_
        refine v_goto F dX11_isBehind_78 rfl ?_
        cases h
        cases (show _ = r from K)
        exact v_zret F (Or.inr rfl) dX11_isBehind_82
    · rw [if_neg hq4] at h
      refine v_aload_n F dX11_isBehind_51 rfl rfl ?_
      refine gf_X11_661 F dX11_isBehind_52 hp (v := 1604) rfl ?_
      refine v_iload_n F dX11_isBehind_55 rfl rfl ?_
      refine v_iald F dX11_isBehind_56 (ar_X11_84 hX hp) hi1 ?_
      refine v_aload_n F dX11_isBehind_57 rfl rfl ?_
      refine gf_X11_661 F dX11_isBehind_58 hp (v := 1604) rfl ?_
      refine v_iload_n F dX11_isBehind_61 rfl rfl ?_
      refine v_iald F dX11_isBehind_62 (ar_X11_84 hX hp) hi2 ?_
      refine v_icmp_le F dX11_isBehind_63 rfl (fun hq6 => ?_) (fun hq6 => ?_)
      · rw [if_pos hq6] at h
        refine v_iconst F dX11_isBehind_70 ⟨by decide, by decide⟩ ?_
        cases h
        cases (show _ = r from K)
        exact v_zret F (Or.inl rfl) dX11_isBehind_71
      · rw [if_neg hq6] at h
        refine v_iconst F dX11_isBehind_66 ⟨by decide, by decide⟩ ?_
        refine v_goto F dX11_isBehind_67 rfl ?_
        cases h
        cases (show _ = r from K)
        exact v_zret F (Or.inr rfl) dX11_isBehind_71
  · rw [if_neg hq3] at h
    refine v_aload_n F dX11_isBehind_15 rfl rfl ?_
    refine gf_X11_673 F dX11_isBehind_16 hp (v := 1606) rfl ?_
    refine v_iload_n F dX11_isBehind_19 rfl rfl ?_
    refine v_iald F dX11_isBehind_20 (ar_X11_86 hX hp) hi1 ?_
    refine v_aload_n F dX11_isBehind_21 rfl rfl ?_
    refine gf_X11_673 F dX11_isBehind_22 hp (v := 1606) rfl ?_
    refine v_iload_n F dX11_isBehind_25 rfl rfl ?_
    refine v_iald F dX11_isBehind_26 (ar_X11_86 hX hp) hi2 ?_
    refine v_icmp_le F dX11_isBehind_27 rfl (fun hq7 => ?_) (fun hq7 => ?_)
    · rw [if_pos hq7] at h
      refine v_iconst F dX11_isBehind_34 ⟨by decide, by decide⟩ ?_
      cases h
      cases (show _ = r from K)
      exact v_zret F (Or.inl rfl) dX11_isBehind_35
    · rw [if_neg hq7] at h
      refine v_iconst F dX11_isBehind_30 ⟨by decide, by decide⟩ ?_
      refine v_goto F dX11_isBehind_31 rfl ?_
      cases h
      cases (show _ = r from K)
      exact v_zret F (Or.inr rfl) dX11_isBehind_35
