set_option maxRecDepth 100000
set_option maxHeartbeats 4000000
theorem vm_X0_is {w : Wd} {l : Launch} {d m : Dt} {a1 a2 a3 : Int} {r : Int} (hp : PB m 1 0) (h : fX0_is d a1 a2 a3 = some r) : VM w l WF yX0_is cX0_is 4 (some .int) 2 46 0 0 d m [mA 1, mI a1, mI a2, mI a3] (some (mI r)) d m := by
  obtain ⟨x, h, K⟩ : ∃ x, fX0_is d a1 a2 a3 = some x ∧ x = r := ⟨_, h, rfl⟩
  refine VM.of (L := [mA 1, mI a1, mI a2, mI a3]) (by decide +kernel) rfl (Nat.le_of_ble_eq_true rfl) fun G F _ => v_fact fun _ hX _ _ => ?_
  unfold fX0_is at h
  refine v_aload_n F dX0_is_0 rfl rfl ?_
  refine v_iload_n F dX0_is_1 rfl rfl ?_
  refine v_callVv (c := 0) F dX0_is_2 cv_X0_210 rfl (PB.ob hp hX (Nat.le_of_ble_eq_true rfl)) (Nat.le_of_ble_eq_true rfl) rfl (vm_X0_isPerson hp) rfl (rOk.of rfl) ?_
  refine v_if_ne F dX0_is_5 rfl (fun hq1 => ?_) (fun hq1 => ?_)
  · rw [if_neg hq1] at h
    refine v_iload_n F dX0_is_12 rfl rfl ?_
    refine v_iconst F dX0_is_13 ⟨by decide, by decide⟩ ?_
    refine v_bipush F dX0_is_14 rfl ⟨by decide, by decide⟩ ?_
    refine v_callSv F dX0_is_16 cs_X0_163 rfl (vm_X0_within) rfl (rOk.of rfl) ?_
    refine v_if_eq F dX0_is_19 rfl (fun hq2 => ?_) (fun hq2 => ?_)
    · rw [if_pos hq2] at h
      refine v_bipush F dX0_is_29 rfl ⟨by decide, by decide⟩ ?_
      refine v_goto F dX0_is_31 rfl ?_
      cases h
      cases (show _ = r from K)
      exact v_iret F dX0_is_45
    · rw [if_neg hq2] at h
      refine v_iload_n F dX0_is_22 rfl rfl ?_
      refine v_callSv F dX0_is_23 cs_X0_186 rfl (vm_X12_isDay) rfl (rOk.of rfl) ?_
      refine v_if_ne F dX0_is_26 rfl (fun hq3 => ?_) (fun hq3 => ?_)
      · rw [if_neg hq3] at h
        refine v_aload_n F dX0_is_34 rfl rfl ?_
        refine gf_X0_26 F dX0_is_35 hp (v := 9) rfl ?_
        refine v_iload_n F dX0_is_38 rfl rfl ?_
        obtain ⟨hi4, h⟩ := ck_some h
        obtain ⟨x5, ex5, h⟩ := lv_some h
        obtain ⟨hn7, h⟩ := ck_some h
        refine v_aaldN (t := 109) (c := 12) F dX0_is_39 (ar_X0_4 hX hp) (Nat.le_of_ble_eq_true rfl) rfl rfl rfl rfl rfl hi4 ex5 fun hr6 => ?_
        have x5p := hr6.resolve_left hn7
        refine v_iload_n F dX0_is_40 rfl rfl ?_
        refine v_iload_n F dX0_is_41 rfl rfl ?_
        obtain ⟨x8, hc9, h⟩ := b1_some h
        refine v_callVv (c := 12) F dX0_is_42 cv_X0_250 rfl (PB.ob x5p hX (Nat.le_of_ble_eq_true rfl)) (Nat.le_of_ble_eq_true rfl) rfl (vm_X13_is x5p hc9) rfl (rOk.of rfl) ?_
        cases h
        cases (show _ = r from K)
        exact v_iret F dX0_is_45
      · rw [if_pos hq3] at h
        refine v_bipush F dX0_is_29 rfl ⟨by decide, by decide⟩ ?_
        refine v_goto F dX0_is_31 rfl ?_
        cases h
        cases (show _ = r from K)
        exact v_iret F dX0_is_45
  · rw [if_pos hq1] at h
    refine v_iconst F dX0_is_8 ⟨by decide, by decide⟩ ?_
    refine v_goto F dX0_is_9 rfl ?_
    cases h
    cases (show _ = r from K)
    exact v_iret F dX0_is_45
def fX11_isSo_9P (w : Wd) (l : Launch) (G : Cx) (Q : State → Prop) (m : Dt) (d : Dt) (a1 a2 a3 : Int) (s : Int × Int) : Prop := V w l WF G Q d m 0 0 9 [mA 1545, mI a1, mI a2, mI a3, mI (s.1), mI (s.2)] []
theorem fX11_isSo_9f_ok {w : Wd} {l : Launch} {G : Cx} {d m dd : Dt} {a1 a2 a3 : Int} {r : Int} {s : Int × Int} {x : ((Int × Int) ⊕ Int)} (F : Fx w G cX11_isSo RX11 6 (some .boolean) { frames := 1, cells := 0, slots := 0, locals := 25 }) (hX : WF dd m) (hp : PB m 1545 11) (h : fX11_isSo_9f d a1 a2 a3 s = some x) (K : (Sum.elim (fX11_isSo_9P w l G (QM w G WF (some (mI r)) d m 0 0) m d a1 a2 a3) (fun q => q = r)) x) : V w l WF G (QM w G WF (some (mI r)) d m 0 0) d m 0 0 9 [mA 1545, mI a1, mI a2, mI a3, mI (s.1), mI (s.2)] [] := by
  obtain ⟨v4, v5⟩ := s
  unfold fX11_isSo_9f at h
  dsimp only at h
  refine v_iload F dX11_isSo_9 rfl ?_
  refine v_bipush F dX11_isSo_11 rfl ⟨by decide, by decide⟩ ?_
  refine v_iload_n F dX11_isSo_13 rfl rfl ?_
  refine v_imul F dX11_isSo_14 ?_
  refine v_aload_n F dX11_isSo_15 rfl rfl ?_
  refine gf_X11_126 F dX11_isSo_16 hp (v := 1560) rfl ?_
  refine v_iload_n F dX11_isSo_19 rfl rfl ?_
  obtain ⟨hi2, h⟩ := ck_some h
  refine v_iald F dX11_isSo_20 (ar_X11_19 hX hp) hi2 ?_
  refine v_iadd F dX11_isSo_21 ?_
  refine v_icmp_ge F dX11_isSo_22 rfl (fun hq3 => ?_) (fun hq3 => ?_)
  · rw [if_pos hq3] at h
    obtain ⟨z, hu, ez⟩ := up_some h
    clear h
    subst ez
    have h := hu
    clear hu
    refine v_iload F dX11_isSo_80 rfl ?_
    refine v_iconst F dX11_isSo_82 ⟨by decide, by decide⟩ ?_
    refine v_icmp_ne F dX11_isSo_83 rfl (fun hq4 => ?_) (fun hq4 => ?_)
    · rw [if_neg hq4] at h
      refine v_iconst F dX11_isSo_90 ⟨by decide, by decide⟩ ?_
      cases h
      cases (show _ = r from K)
      exact v_zret F (Or.inl rfl) dX11_isSo_91
    · rw [if_pos hq4] at h
      refine v_iconst F dX11_isSo_86 ⟨by decide, by decide⟩ ?_
      refine v_goto F dX11_isSo_87 rfl ?_
      cases h
      cases (show _ = r from K)
      exact v_zret F (Or.inr rfl) dX11_isSo_91
  · rw [if_neg hq3] at h
    refine v_aload_n F dX11_isSo_25 rfl rfl ?_
    refine gf_X11_129 F dX11_isSo_26 hp (v := 1561) rfl ?_
    refine v_iload F dX11_isSo_29 rfl ?_
    obtain ⟨hi5, h⟩ := ck_some h
    refine v_iald F dX11_isSo_31 (ar_X11_20 hX hp) hi5 ?_
    refine v_iload_n F dX11_isSo_32 rfl rfl ?_
    refine v_icmp_ne F dX11_isSo_33 rfl (fun hq6 => ?_) (fun hq6 => ?_)
    · rw [if_neg hq6] at h
      refine v_iload F dX11_isSo_70 rfl ?_
      refine v_istore F dX11_isSo_72 (Nat.le_of_ble_eq_true rfl) (L' := [mA 1545, mI a1, mI a2, mI a3, mI v4, mI v5]) rfl ?_
      obtain ⟨x7, ex7, h⟩ := lv_some h
      refine v_iincN F dX11_isSo_74 (Nat.le_of_ble_eq_true rfl) rfl ex7 (L' := [mA 1545, mI a1, mI a2, mI a3, mI v4, mI x7]) rfl ?_
      refine v_goto F dX11_isSo_77 rfl ?_
      cases h
      exact K
    · rw [if_pos hq6] at h
      refine v_iload_n F dX11_isSo_36 rfl rfl ?_
      refine v_i2l F dX11_isSo_37 ?_
      refine v_aload_n F dX11_isSo_38 rfl rfl ?_
      refine gf_X11_135 F dX11_isSo_39 hp (v := 1563) rfl ?_
      refine v_iload F dX11_isSo_42 rfl ?_
      refine v_iald F dX11_isSo_44 (ar_X11_22 hX hp) hi5 ?_
      refine v_i2l F dX11_isSo_45 ?_
      refine v_aload_n F dX11_isSo_46 rfl rfl ?_
      refine gf_X11_138 F dX11_isSo_47 hp (v := 1564) rfl ?_
      refine v_iload F dX11_isSo_50 rfl ?_
      refine v_iald F dX11_isSo_52 (ar_X11_23 hX hp) hi5 ?_
      refine v_i2l F dX11_isSo_53 ?_
      refine v_callSv F dX11_isSo_54 cs_X11_13 rfl (vm_X11_in) rfl (rOk.of rfl) ?_
      refine v_if_eq F dX11_isSo_57 rfl (fun hq8 => ?_) (fun hq8 => ?_)
      · rw [if_pos hq8] at h
        refine v_iload F dX11_isSo_70 rfl ?_
        refine v_istore F dX11_isSo_72 (Nat.le_of_ble_eq_true rfl) (L' := [mA 1545, mI a1, mI a2, mI a3, mI v4, mI v5]) rfl ?_
        obtain ⟨x9, ex9, h⟩ := lv_some h
        refine v_iincN F dX11_isSo_74 (Nat.le_of_ble_eq_true rfl) rfl ex9 (L' := [mA 1545, mI a1, mI a2, mI a3, mI v4, mI x9]) rfl ?_
        refine v_goto F dX11_isSo_77 rfl ?_
        cases h
        exact K
      · rw [if_neg hq8] at h
        refine v_aload_n F dX11_isSo_60 rfl rfl ?_
        refine gf_X11_132 F dX11_isSo_61 hp (v := 1562) rfl ?_
        refine v_iload F dX11_isSo_64 rfl ?_
        refine v_iald F dX11_isSo_66 (ar_X11_21 hX hp) hi5 ?_
        refine v_goto F dX11_isSo_67 rfl ?_
        obtain ⟨x10, ex10, h⟩ := lv_some h
        refine v_nI ex10 ?_
        refine v_istore F dX11_isSo_72 (Nat.le_of_ble_eq_true rfl) (L' := [mA 1545, mI a1, mI a2, mI a3, mI x10, mI v5]) rfl ?_
        obtain ⟨x11, ex11, h⟩ := lv_some h
        refine v_iincN F dX11_isSo_74 (Nat.le_of_ble_eq_true rfl) rfl ex11 (L' := [mA 1545, mI a1, mI a2, mI a3, mI x10, mI x11]) rfl ?_
        refine v_goto F dX11_isSo_77 rfl ?_
        cases h
        exact K
theorem fX11_isSo_9_ok {w : Wd} {l : Launch} {G : Cx} {d m dd : Dt} {a1 a2 a3 v4 v5 : Int} {r : Int} {x : Int} (F : Fx w G cX11_isSo RX11 6 (some .boolean) { frames := 1, cells := 0, slots := 0, locals := 25 }) (hX : WF dd m) (hp : PB m 1545 11) (h : fX11_isSo_9 d a1 a2 a3 v4 v5 = some x) (K : (fun q => q = r) x) : V w l WF G (QM w G WF (some (mI r)) d m 0 0) d m 0 0 9 [mA 1545, mI a1, mI a2, mI a3, mI v4, mI v5] [] := by
  unfold fX11_isSo_9 at h
  exact loop_ok (P := fX11_isSo_9P w l G (QM w G WF (some (mI r)) d m 0 0) m d a1 a2 a3) (fun s x hx h1 h2 => fX11_isSo_9f_ok F hX hp hx (by
    cases x with
    | inl s' => exact h1 s' rfl
    | inr z => cases h2 z rfl; exact K)) h
theorem vm_X11_isSo {w : Wd} {l : Launch} {d m : Dt} {a1 a2 a3 : Int} {r : Int} (hp : PB m 1545 11) (h : fX11_isSo d a1 a2 a3 = some r) : VM w l WF yX11_isSo cX11_isSo 6 (some .boolean) 1 25 0 0 d m [mA 1545, mI a1, mI a2, mI a3] (some (mI r)) d m := by
  obtain ⟨x, h, K⟩ : ∃ x, fX11_isSo d a1 a2 a3 = some x ∧ x = r := ⟨_, h, rfl⟩
  refine VM.of (L := [mA 1545, mI a1, mI a2, mI a3, mU, mU]) (by decide +kernel) rfl (Nat.le_of_ble_eq_true rfl) fun G F _ => v_fact fun _ hX _ _ => ?_
  unfold fX11_isSo at h
  refine v_iconst F dX11_isSo_0 ⟨by decide, by decide⟩ ?_
  refine v_istore F dX11_isSo_1 (Nat.le_of_ble_eq_true rfl) (L' := [mA 1545, mI a1, mI a2, mI a3, mI 0, mU]) rfl ?_
  refine v_bipush F dX11_isSo_3 rfl ⟨by decide, by decide⟩ ?_
  refine v_iload_n F dX11_isSo_5 rfl rfl ?_
  refine v_imul F dX11_isSo_6 ?_
  obtain ⟨x1, ex1, h⟩ := lv_some h
  refine v_nI ex1 ?_
  refine v_istore F dX11_isSo_7 (Nat.le_of_ble_eq_true rfl) (L' := [mA 1545, mI a1, mI a2, mI a3, mI 0, mI x1]) rfl ?_
  exact fX11_isSo_9_ok F hX hp h K
theorem vm_X11_is {w : Wd} {l : Launch} {d m : Dt} {a1 a2 a3 : Int} {r : Int} (hp : PB m 1545 11) (h : fX11_is d a1 a2 a3 = some r) : VM w l WF yX11_is cX11_is 4 (some .int) 2 50 0 0 d m [mA 1545, mI a1, mI a2, mI a3] (some (mI r)) d m := by
  obtain ⟨x, h, K⟩ : ∃ x, fX11_is d a1 a2 a3 = some x ∧ x = r := ⟨_, h, rfl⟩
  refine VM.of (L := [mA 1545, mI a1, mI a2, mI a3]) (by decide +kernel) rfl (Nat.le_of_ble_eq_true rfl) fun G F _ => v_fact fun _ hX _ _ => ?_
  unfold fX11_is at h
  refine v_aload_n F dX11_is_0 rfl rfl ?_
  refine v_iload_n F dX11_is_1 rfl rfl ?_
  refine v_callVv (c := 11) F dX11_is_2 cv_X11_110 rfl (PB.ob hp hX (Nat.le_of_ble_eq_true rfl)) (Nat.le_of_ble_eq_true rfl) rfl (vm_X11_isPerson hp) rfl (rOk.of rfl) ?_
  refine v_if_ne F dX11_is_5 rfl (fun hq1 => ?_) (fun hq1 => ?_)
  · rw [if_neg hq1] at h
    refine v_iload_n F dX11_is_12 rfl rfl ?_
    refine v_i2l F dX11_is_13 ?_
    refine v_lconst0 F dX11_is_14 ?_
    refine v_ldc2 (n := 9) F dX11_is_15 q2497 rfl ⟨by decide, by decide⟩ ?_
    refine v_callSv F dX11_is_18 cs_X11_13 rfl (vm_X11_in) rfl (rOk.of rfl) ?_
    refine v_if_eq F dX11_is_21 rfl (fun hq2 => ?_) (fun hq2 => ?_)
    · rw [if_pos hq2] at h
      refine v_bipush F dX11_is_31 rfl ⟨by decide, by decide⟩ ?_
      refine v_goto F dX11_is_33 rfl ?_
      cases h
      cases (show _ = r from K)
      exact v_iret F dX11_is_51
    · rw [if_neg hq2] at h
      refine v_iload_n F dX11_is_24 rfl rfl ?_
      refine v_callSv F dX11_is_25 cs_X11_70 rfl (vm_X11_isDay) rfl (rOk.of rfl) ?_
      refine v_if_ne F dX11_is_28 rfl (fun hq3 => ?_) (fun hq3 => ?_)
      · rw [if_neg hq3] at h
        refine v_aload_n F dX11_is_36 rfl rfl ?_
        refine v_iload_n F dX11_is_37 rfl rfl ?_
        refine v_iload_n F dX11_is_38 rfl rfl ?_
        refine v_iload_n F dX11_is_39 rfl rfl ?_
        obtain ⟨x4, hc5, h⟩ := b1_some h
        refine v_callVv (c := 11) F dX11_is_40 cv_X11_154 rfl (PB.ob hp hX (Nat.le_of_ble_eq_true rfl)) (Nat.le_of_ble_eq_true rfl) rfl (vm_X11_isSo hp hc5) rfl (rOk.of rfl) ?_
        refine v_if_eq F dX11_is_43 rfl (fun hq6 => ?_) (fun hq6 => ?_)
        · rw [if_pos hq6] at h
          refine v_iconst F dX11_is_50 ⟨by decide, by decide⟩ ?_
          cases h
          cases (show _ = r from K)
          exact v_iret F dX11_is_51
        · rw [if_neg hq6] at h
          refine v_iconst F dX11_is_46 ⟨by decide, by decide⟩ ?_
          refine v_goto F dX11_is_47 rfl ?_
          cases h
          cases (show _ = r from K)
          exact v_iret F dX11_is_51
      · rw [if_pos hq3] at h
        refine v_bipush F dX11_is_31 rfl ⟨by decide, by decide⟩ ?_
        refine v_goto F dX11_is_33 rfl ?_
        cases h
        cases (show _ = r from K)
        exact v_iret F dX11_is_51
  · rw [if_pos hq1] at h
    refine v_iconst F dX11_is_8 ⟨by decide, by decide⟩ ?_
    refine v_goto F dX11_is_9 rfl ?_
    cases h
    cases (show _ = r from K)
    exact v_iret F dX11_is_51
theorem vm_X5_begin {w : Wd} {l : Launch} {d m : Dt} {o a1 : Int} {d' : Dt} (hp : PB m o 5) (h : fX5_begin d o a1 = some d') : VM w l WF yX5_begin cX5_begin 2 none 0 0 0 0 d m [mA o, mI a1] none d' m := by
  obtain ⟨x, h, K⟩ : ∃ x, fX5_begin d o a1 = some x ∧ x = d' := ⟨_, h, rfl⟩
  refine VM.of (L := [mA o, mI a1]) (by decide +kernel) rfl (Nat.le_of_ble_eq_true rfl) fun G F _ => v_fact fun _ hX _ _ => ?_
  unfold fX5_begin at h
  refine v_aload_n F dX5_begin_0 rfl rfl ?_
  refine v_iconst F dX5_begin_1 ⟨by decide, by decide⟩ ?_
  obtain ⟨d1, ed1, h⟩ := sd_some h
  refine pf_X5_15 F dX5_begin_2 hp ?_
  refine v_nD ed1 ?_
  refine v_aload_n F dX5_begin_5 rfl rfl ?_
  refine v_iload_n F dX5_begin_6 rfl rfl ?_
  obtain ⟨d2, ed2, h⟩ := sd_some h
  refine pf_X5_19 F dX5_begin_7 hp ?_
  refine v_nD ed2 ?_
  refine v_aload_n F dX5_begin_10 rfl rfl ?_
  refine v_iload_n F dX5_begin_11 rfl rfl ?_
  obtain ⟨d3, ed3, h⟩ := sd_some h
  refine pf_X5_22 F dX5_begin_12 hp ?_
  refine v_nD ed3 ?_
  cases h
  cases (show _ = d' from K)
  exact v_vret F dX5_begin_15
theorem vm_X4_begin {w : Wd} {l : Launch} {d m : Dt} {o : Int} {d' : Dt} (hp : PB m o 4) (h : fX4_begin d o = some d') : VM w l WF yX4_begin cX4_begin 1 none 1 21 0 0 d m [mA o] none d' m := by
  obtain ⟨x, h, K⟩ : ∃ x, fX4_begin d o = some x ∧ x = d' := ⟨_, h, rfl⟩
  refine VM.of (L := [mA o]) (by decide +kernel) rfl (Nat.le_of_ble_eq_true rfl) fun G F _ => v_fact fun _ hX _ _ => ?_
  unfold fX4_begin at h
  refine v_aload_n F dX4_begin_0 rfl rfl ?_
  refine v_iconst F dX4_begin_1 ⟨by decide, by decide⟩ ?_
  obtain ⟨d1, ed1, h⟩ := sd_some h
  refine pf_X4_51 F dX4_begin_2 hp (Or.inl rfl) ?_
  refine v_nD ed1 ?_
  refine v_aload_n F dX4_begin_5 rfl rfl ?_
  refine v_iconst F dX4_begin_6 ⟨by decide, by decide⟩ ?_
  obtain ⟨d2, ed2, h⟩ := sd_some h
  refine pf_X4_55 F dX4_begin_7 hp (Or.inl rfl) ?_
  refine v_nD ed2 ?_
  refine v_aload_n F dX4_begin_10 rfl rfl ?_
  refine v_iconst F dX4_begin_11 ⟨by decide, by decide⟩ ?_
  obtain ⟨d3, ed3, h⟩ := sd_some h
  refine pf_X4_58 F dX4_begin_12 hp ?_
  refine v_nD ed3 ?_
  refine v_aload_n F dX4_begin_15 rfl rfl ?_
  refine v_iconst F dX4_begin_16 ⟨by decide, by decide⟩ ?_
  obtain ⟨d4, ed4, h⟩ := sd_some h
  refine pf_X4_62 F dX4_begin_17 hp ?_
  refine v_nD ed4 ?_
  refine v_aload_n F dX4_begin_20 rfl rfl ?_
  refine v_iconst F dX4_begin_21 ⟨by decide, by decide⟩ ?_
  obtain ⟨d5, ed5, h⟩ := sd_some h
  refine pf_X4_65 F dX4_begin_22 hp ?_
  refine v_nD ed5 ?_
  refine v_aload_n F dX4_begin_25 rfl rfl ?_
  refine gf_X4_18 F dX4_begin_26 hp (v := (o + 2)) rfl ?_
  refine v_iconst F dX4_begin_29 ⟨by decide, by decide⟩ ?_
  obtain ⟨d6, hc7, h⟩ := bd_some h
  refine v_callV0 (c := 5) F dX4_begin_30 cv_X4_68 rfl (PB.ob (ob_X4_6 hX hp) hX (Nat.le_of_ble_eq_true rfl)) (Nat.le_of_ble_eq_true rfl) rfl (vm_X5_begin (ob_X4_6 hX hp) hc7) rfl (rOk.of rfl) ?_
  refine v_aload_n F dX4_begin_33 rfl rfl ?_
  refine gf_X4_22 F dX4_begin_34 hp (v := (o + 4)) rfl ?_
  refine v_iconst F dX4_begin_37 ⟨by decide, by decide⟩ ?_
  obtain ⟨d8, hc9, h⟩ := bd_some h
  refine v_callV0 (c := 5) F dX4_begin_38 cv_X4_68 rfl (PB.ob (ob_X4_7 hX hp) hX (Nat.le_of_ble_eq_true rfl)) (Nat.le_of_ble_eq_true rfl) rfl (vm_X5_begin (ob_X4_7 hX hp) hc9) rfl (rOk.of rfl) ?_
  refine v_aload_n F dX4_begin_41 rfl rfl ?_
  refine v_iconst F dX4_begin_42 ⟨by decide, by decide⟩ ?_
  obtain ⟨d10, ed10, h⟩ := sd_some h
  refine pf_X4_72 F dX4_begin_43 hp ?_
  refine v_nD ed10 ?_
  cases h
  cases (show _ = d' from K)
  exact v_vret F dX4_begin_46
theorem vm_X2_isLetter {w : Wd} {l : Launch} {d m : Dt} {a1 : Int} {r : Int} (hp : PB m 10 2) (h : fX2_isLetter d a1 = some r) : VM w l WF yX2_isLetter cX2_isLetter 2 (some .boolean) 1 22 0 0 d m [mA 10, mI a1] (some (mI r)) d m := by
  obtain ⟨x, h, K⟩ : ∃ x, fX2_isLetter d a1 = some x ∧ x = r := ⟨_, h, rfl⟩
  refine VM.of (L := [mA 10, mI a1]) (by decide +kernel) rfl (Nat.le_of_ble_eq_true rfl) fun G F _ => v_fact fun _ hX _ _ => ?_
  unfold fX2_isLetter at h
  refine v_iload_n F dX2_isLetter_0 rfl rfl ?_
  refine v_aload_n F dX2_isLetter_1 rfl rfl ?_
  refine gf_X2_160 F dX2_isLetter_2 hp ?_
  refine v_icmp_ge F dX2_isLetter_5 rfl (fun hq1 => ?_) (fun hq1 => ?_)
  · rw [if_pos hq1] at h
    refine v_iconst F dX2_isLetter_28 ⟨by decide, by decide⟩ ?_
    cases h
    cases (show _ = r from K)
    exact v_zret F (Or.inl rfl) dX2_isLetter_29
  · rw [if_neg hq1] at h
    refine v_aload_n F dX2_isLetter_8 rfl rfl ?_
    refine gf_X2_26 F dX2_isLetter_9 hp (v := 2) rfl ?_
    refine v_iload_n F dX2_isLetter_12 rfl rfl ?_
    obtain ⟨hi2, h⟩ := ck_some h
    refine v_bald F dX2_isLetter_13 (ar_X2_3 hX hp) hi2 ?_
    refine v_bipush F dX2_isLetter_14 rfl ⟨by decide, by decide⟩ ?_
    refine v_bipush F dX2_isLetter_16 rfl ⟨by decide, by decide⟩ ?_
    refine v_callSv F dX2_isLetter_18 cs_X2_163 rfl (vm_X0_within) rfl (rOk.of rfl) ?_
    refine v_if_eq F dX2_isLetter_21 rfl (fun hq3 => ?_) (fun hq3 => ?_)
    · rw [if_pos hq3] at h
      refine v_iconst F dX2_isLetter_28 ⟨by decide, by decide⟩ ?_
      cases h
      cases (show _ = r from K)
      exact v_zret F (Or.inl rfl) dX2_isLetter_29
    · rw [if_neg hq3] at h
      refine v_iconst F dX2_isLetter_24 ⟨by decide, by decide⟩ ?_
      refine v_goto F dX2_isLetter_25 rfl ?_
      cases h
      cases (show _ = r from K)
      exact v_zret F (Or.inr rfl) dX2_isLetter_29
theorem vm_X2_isDigit {w : Wd} {l : Launch} {d m : Dt} {a1 : Int} {r : Int} (hp : PB m 10 2) (h : fX2_isDigit d a1 = some r) : VM w l WF yX2_isDigit cX2_isDigit 2 (some .boolean) 1 22 0 0 d m [mA 10, mI a1] (some (mI r)) d m := by
  obtain ⟨x, h, K⟩ : ∃ x, fX2_isDigit d a1 = some x ∧ x = r := ⟨_, h, rfl⟩
  refine VM.of (L := [mA 10, mI a1]) (by decide +kernel) rfl (Nat.le_of_ble_eq_true rfl) fun G F _ => v_fact fun _ hX _ _ => ?_
  unfold fX2_isDigit at h
  refine v_iload_n F dX2_isDigit_0 rfl rfl ?_
  refine v_aload_n F dX2_isDigit_1 rfl rfl ?_
  refine gf_X2_160 F dX2_isDigit_2 hp ?_
  refine v_icmp_ge F dX2_isDigit_5 rfl (fun hq1 => ?_) (fun hq1 => ?_)
  · rw [if_pos hq1] at h
    refine v_iconst F dX2_isDigit_28 ⟨by decide, by decide⟩ ?_
    cases h
    cases (show _ = r from K)
    exact v_zret F (Or.inl rfl) dX2_isDigit_29
  · rw [if_neg hq1] at h
    refine v_aload_n F dX2_isDigit_8 rfl rfl ?_
    refine gf_X2_26 F dX2_isDigit_9 hp (v := 2) rfl ?_
    refine v_iload_n F dX2_isDigit_12 rfl rfl ?_
    obtain ⟨hi2, h⟩ := ck_some h
    refine v_bald F dX2_isDigit_13 (ar_X2_3 hX hp) hi2 ?_
    refine v_bipush F dX2_isDigit_14 rfl ⟨by decide, by decide⟩ ?_
    refine v_bipush F dX2_isDigit_16 rfl ⟨by decide, by decide⟩ ?_
    refine v_callSv F dX2_isDigit_18 cs_X2_163 rfl (vm_X0_within) rfl (rOk.of rfl) ?_
    refine v_if_eq F dX2_isDigit_21 rfl (fun hq3 => ?_) (fun hq3 => ?_)
    · rw [if_pos hq3] at h
      refine v_iconst F dX2_isDigit_28 ⟨by decide, by decide⟩ ?_
      cases h
      cases (show _ = r from K)
      exact v_zret F (Or.inl rfl) dX2_isDigit_29
    · rw [if_neg hq3] at h
      refine v_iconst F dX2_isDigit_24 ⟨by decide, by decide⟩ ?_
      refine v_goto F dX2_isDigit_25 rfl ?_
      cases h
      cases (show _ = r from K)
      exact v_zret F (Or.inr rfl) dX2_isDigit_29
def fX2_isWord_23P (w : Wd) (l : Launch) (G : Cx) (Q : State → Prop) (m : Dt) (d : Dt) (a1 : Int) (s : Int) : Prop := V w l WF G Q d m 0 0 23 [mA 10, mA a1, mI (s)] []
theorem fX2_isWord_23f_ok {w : Wd} {l : Launch} {G : Cx} {d m dd : Dt} {a1 : Int} {r : Int} {s : Int} {x : ((Int) ⊕ Int)} (F : Fx w G cX2_isWord RX2 3 (some .boolean) { frames := 4, cells := 0, slots := 0, locals := 85 }) (hX : WF dd m) (hp : PB m 10 2) (hp1 : isS a1) (h : fX2_isWord_23f d a1 s = some x) (K : (Sum.elim (fX2_isWord_23P w l G (QM w G WF (some (mI r)) d m 0 0) m d a1) (fun q => q = r)) x) : V w l WF G (QM w G WF (some (mI r)) d m 0 0) d m 0 0 23 [mA 10, mA a1, mI (s)] [] := by
  obtain ⟨v2, rfl⟩ : ∃ z, z = s := ⟨s, rfl⟩
  unfold fX2_isWord_23f at h
  dsimp only at h
  refine v_iload_n F dX2_isWord_23 rfl rfl ?_
  refine v_aload_n F dX2_isWord_24 rfl rfl ?_
  refine gf_X2_167 F dX2_isWord_25 hp ?_
  refine v_icmp_ge F dX2_isWord_28 rfl (fun hq3 => ?_) (fun hq3 => ?_)
  · rw [if_pos hq3] at h
    obtain ⟨z, hu, ez⟩ := up_some h
    clear h
    subst ez
    have h := hu
    clear hu
    refine v_iconst F dX2_isWord_58 ⟨by decide, by decide⟩ ?_
    cases h
    cases (show _ = r from K)
    exact v_zret F (Or.inr rfl) dX2_isWord_59
  · rw [if_neg hq3] at h
    refine v_aload_n F dX2_isWord_31 rfl rfl ?_
    refine gf_X2_26 F dX2_isWord_32 hp (v := 2) rfl ?_
    refine v_iload_n F dX2_isWord_35 rfl rfl ?_
    obtain ⟨hi4, h⟩ := ck_some h
    refine v_bald F dX2_isWord_36 (ar_X2_3 hX hp) hi4 ?_
    refine v_aload_n F dX2_isWord_37 rfl rfl ?_
    refine v_iload_n F dX2_isWord_38 rfl rfl ?_
    refine v_aload_n F dX2_isWord_39 rfl rfl ?_
    refine gf_X2_150 F dX2_isWord_40 hp ?_
    refine v_isub F dX2_isWord_43 ?_
    obtain ⟨x5, ex5, h⟩ := lv_some h
    refine v_nI ex5 ?_
    obtain ⟨hi6, h⟩ := ck_some h
    refine v_callVX F dX2_isWord_44 cv_X2_174 rfl hp1 (isS_neg hp1).1 rfl (vm_J5_charAt hp1 hi6) rfl (rOk.of rfl) ?_
    refine v_icmp_eq F dX2_isWord_47 rfl (fun hq7 => ?_) (fun hq7 => ?_)
    · rw [if_pos hq7] at h
      obtain ⟨x8, ex8, h⟩ := lv_some h
      refine v_iincN F dX2_isWord_52 (Nat.le_of_ble_eq_true rfl) rfl ex8 (L' := [mA 10, mA a1, mI x8]) rfl ?_
      refine v_goto F dX2_isWord_55 rfl ?_
      cases h
      exact K
    · rw [if_neg hq7] at h
      obtain ⟨z, hu, ez⟩ := up_some h
      clear h
      subst ez
      have h := hu
      clear hu
      refine v_iconst F dX2_isWord_50 ⟨by decide, by decide⟩ ?_
      cases h
      cases (show _ = r from K)
      exact v_zret F (Or.inl rfl) dX2_isWord_51
theorem fX2_isWord_23_ok {w : Wd} {l : Launch} {G : Cx} {d m dd : Dt} {a1 v2 : Int} {r : Int} {x : Int} (F : Fx w G cX2_isWord RX2 3 (some .boolean) { frames := 4, cells := 0, slots := 0, locals := 85 }) (hX : WF dd m) (hp : PB m 10 2) (hp1 : isS a1) (h : fX2_isWord_23 d a1 v2 = some x) (K : (fun q => q = r) x) : V w l WF G (QM w G WF (some (mI r)) d m 0 0) d m 0 0 23 [mA 10, mA a1, mI v2] [] := by
  unfold fX2_isWord_23 at h
  exact loop_ok (P := fX2_isWord_23P w l G (QM w G WF (some (mI r)) d m 0 0) m d a1) (fun s x hx h1 h2 => fX2_isWord_23f_ok F hX hp hp1 hx (by
    cases x with
    | inl s' => exact h1 s' rfl
    | inr z => cases h2 z rfl; exact K)) h
theorem vm_X2_isWord {w : Wd} {l : Launch} {d m : Dt} {a1 : Int} {r : Int} (hp : PB m 10 2) (hp1 : isS a1) (h : fX2_isWord d a1 = some r) : VM w l WF yX2_isWord cX2_isWord 3 (some .boolean) 4 85 0 0 d m [mA 10, mA a1] (some (mI r)) d m := by
  obtain ⟨x, h, K⟩ : ∃ x, fX2_isWord d a1 = some x ∧ x = r := ⟨_, h, rfl⟩
  refine VM.of (L := [mA 10, mA a1, mU]) (by decide +kernel) rfl (Nat.le_of_ble_eq_true rfl) fun G F _ => v_fact fun _ hX _ _ => ?_
  unfold fX2_isWord at h
  refine v_aload_n F dX2_isWord_0 rfl rfl ?_
  refine gf_X2_167 F dX2_isWord_1 hp ?_
  refine v_aload_n F dX2_isWord_4 rfl rfl ?_
  refine gf_X2_150 F dX2_isWord_5 hp ?_
  refine v_isub F dX2_isWord_8 ?_
  refine v_aload_n F dX2_isWord_9 rfl rfl ?_
  refine v_callVX F dX2_isWord_10 cv_X2_170 rfl hp1 (isS_neg hp1).1 rfl (vm_J5_length hp1) rfl (rOk.of rfl) ?_
  refine v_icmp_eq F dX2_isWord_13 rfl (fun hq1 => ?_) (fun hq1 => ?_)
  · rw [if_pos hq1] at h
    refine v_aload_n F dX2_isWord_18 rfl rfl ?_
    refine gf_X2_150 F dX2_isWord_19 hp ?_
    obtain ⟨x2, ex2, h⟩ := lv_some h
    refine v_nI ex2 ?_
    refine v_istore_n F dX2_isWord_22 rfl (Nat.le_of_ble_eq_true rfl) (L' := [mA 10, mA a1, mI x2]) rfl ?_
    exact fX2_isWord_23_ok F hX hp hp1 h K
  · rw [if_neg hq1] at h
    refine v_iconst F dX2_isWord_16 ⟨by decide, by decide⟩ ?_
    cases h
    cases (show _ = r from K)
    exact v_zret F (Or.inl rfl) dX2_isWord_17
def fX2_wordHere_2P (w : Wd) (l : Launch) (G : Cx) (Q : State → Prop) (m : Dt) (d : Dt) (s : Int) : Prop := V w l WF G Q d m 0 0 2 [mA 10, mI (s)] []
theorem fX2_wordHere_2f_ok {w : Wd} {l : Launch} {G : Cx} {d m dd : Dt} {r : Int} {s : Int} {x : ((Int) ⊕ Int)} (F : Fx w G cX2_wordHere RX2 2 (some .int) { frames := 5, cells := 0, slots := 0, locals := 107 }) (hX : WF dd m) (hp : PB m 10 2) (h : fX2_wordHere_2f d s = some x) (K : (Sum.elim (fX2_wordHere_2P w l G (QM w G WF (some (mI r)) d m 0 0) m d) (fun q => q = r)) x) : V w l WF G (QM w G WF (some (mI r)) d m 0 0) d m 0 0 2 [mA 10, mI (s)] [] := by
  obtain ⟨v1, rfl⟩ : ∃ z, z = s := ⟨s, rfl⟩
  unfold fX2_wordHere_2f at h
  dsimp only at h
  refine v_iload_n F dX2_wordHere_2 rfl rfl ?_
  refine v_aload_n F dX2_wordHere_3 rfl rfl ?_
  refine gf_X2_146 F dX2_wordHere_4 hp (v := 14) rfl ?_
  refine v_alen (t := 115) F dX2_wordHere_7 (ar_X2_0 hX hp) (Nat.le_of_ble_eq_true rfl) rfl ?_
  refine v_icmp_ge F dX2_wordHere_8 rfl (fun hq1 => ?_) (fun hq1 => ?_)
  · rw [if_pos hq1] at h
    obtain ⟨z, hu, ez⟩ := up_some h
    clear h
    subst ez
    have h := hu
    clear hu
    refine v_iconst F dX2_wordHere_32 ⟨by decide, by decide⟩ ?_
    cases h
    cases (show _ = r from K)
    exact v_iret F dX2_wordHere_33
  · rw [if_neg hq1] at h
    refine v_aload_n F dX2_wordHere_11 rfl rfl ?_
    refine v_aload_n F dX2_wordHere_12 rfl rfl ?_
    refine gf_X2_146 F dX2_wordHere_13 hp (v := 14) rfl ?_
    refine v_iload_n F dX2_wordHere_16 rfl rfl ?_
    obtain ⟨hi2, h⟩ := ck_some h
    obtain ⟨x3, ex3, h⟩ := lv_some h
    obtain ⟨hn5, h⟩ := ck_some h
    refine v_aaldS F dX2_wordHere_17 (ar_X2_0 hX hp) hi2 ex3 fun hr4 => ?_
    have x3p := hr4.resolve_left hn5
    obtain ⟨x6, hc7, h⟩ := b1_some h
    refine v_callVv (c := 2) F dX2_wordHere_18 cv_X2_178 rfl (PB.ob hp hX (Nat.le_of_ble_eq_true rfl)) (Nat.le_of_ble_eq_true rfl) rfl (vm_X2_isWord hp x3p hc7) rfl (rOk.of rfl) ?_
    refine v_if_eq F dX2_wordHere_21 rfl (fun hq8 => ?_) (fun hq8 => ?_)
    · rw [if_pos hq8] at h
      obtain ⟨x9, ex9, h⟩ := lv_some h
      refine v_iincN F dX2_wordHere_26 (Nat.le_of_ble_eq_true rfl) rfl ex9 (L' := [mA 10, mI x9]) rfl ?_
      refine v_goto F dX2_wordHere_29 rfl ?_
      cases h
      exact K
    · rw [if_neg hq8] at h
      obtain ⟨z, hu, ez⟩ := up_some h
      clear h
      subst ez
      have h := hu
      clear hu
      refine v_iload_n F dX2_wordHere_24 rfl rfl ?_
      cases h
      cases (show _ = r from K)
      exact v_iret F dX2_wordHere_25
theorem fX2_wordHere_2_ok {w : Wd} {l : Launch} {G : Cx} {d m dd : Dt} {v1 : Int} {r : Int} {x : Int} (F : Fx w G cX2_wordHere RX2 2 (some .int) { frames := 5, cells := 0, slots := 0, locals := 107 }) (hX : WF dd m) (hp : PB m 10 2) (h : fX2_wordHere_2 d v1 = some x) (K : (fun q => q = r) x) : V w l WF G (QM w G WF (some (mI r)) d m 0 0) d m 0 0 2 [mA 10, mI v1] [] := by
  unfold fX2_wordHere_2 at h
  exact loop_ok (P := fX2_wordHere_2P w l G (QM w G WF (some (mI r)) d m 0 0) m d) (fun s x hx h1 h2 => fX2_wordHere_2f_ok F hX hp hx (by
    cases x with
    | inl s' => exact h1 s' rfl
    | inr z => cases h2 z rfl; exact K)) h
theorem vm_X2_wordHere {w : Wd} {l : Launch} {d m : Dt} {r : Int} (hp : PB m 10 2) (h : fX2_wordHere d = some r) : VM w l WF yX2_wordHere cX2_wordHere 2 (some .int) 5 107 0 0 d m [mA 10] (some (mI r)) d m := by
  obtain ⟨x, h, K⟩ : ∃ x, fX2_wordHere d = some x ∧ x = r := ⟨_, h, rfl⟩
  refine VM.of (L := [mA 10, mU]) (by decide +kernel) rfl (Nat.le_of_ble_eq_true rfl) fun G F _ => v_fact fun _ hX _ _ => ?_
  unfold fX2_wordHere at h
  refine v_iconst F dX2_wordHere_0 ⟨by decide, by decide⟩ ?_
  refine v_istore_n F dX2_wordHere_1 rfl (Nat.le_of_ble_eq_true rfl) (L' := [mA 10, mI 0]) rfl ?_
  exact fX2_wordHere_2_ok F hX hp h K
def fX2_numberHere_10P (w : Wd) (l : Launch) (G : Cx) (Q : State → Prop) (m : Dt) (s : Dt × Int) : Prop := V w l WF G Q s.1 m 0 0 10 [mA 10, mI (s.2)] []
theorem fX2_numberHere_81_ok {w : Wd} {l : Launch} {G : Cx} {d m dd : Dt} {s1 : Int} {d' : Dt} {x : Dt} (F : Fx w G cX2_numberHere RX2 2 none { frames := 0, cells := 0, slots := 0, locals := 0 }) (hX : WF dd m) (hp : PB m 10 2) (h : fX2_numberHere_81 d s1 = some x) (K : (fun q => q = d') x) : V w l WF G (QM w G WF none d' m 0 0) d m 0 0 81 [mU, mU] [mI s1, mA 10] := by
  unfold fX2_numberHere_81 at h
  obtain ⟨d5, ed5, h⟩ := sd_some h
  refine pf_X2_182 F dX2_numberHere_81 hp ?_
  refine v_nD ed5 ?_
  cases h
  cases (show _ = d' from K)
  exact v_vret F dX2_numberHere_84
theorem fX2_numberHere_58_ok {w : Wd} {l : Launch} {G : Cx} {d m dd : Dt} {d' : Dt} {x : Dt} (F : Fx w G cX2_numberHere RX2 2 none { frames := 0, cells := 0, slots := 0, locals := 0 }) (hX : WF dd m) (hp : PB m 10 2) (h : fX2_numberHere_58 d = some x) (K : (fun q => q = d') x) : V w l WF G (QM w G WF none d' m 0 0) d m 0 0 58 [mA 10, mU] [] := by
  unfold fX2_numberHere_58 at h
  refine v_aload_n F dX2_numberHere_58 rfl rfl ?_
  refine v_aload_n F dX2_numberHere_59 rfl rfl ?_
  refine gf_X2_167 F dX2_numberHere_60 hp ?_
  refine v_aload_n F dX2_numberHere_63 rfl rfl ?_
  refine gf_X2_150 F dX2_numberHere_64 hp ?_
  refine v_isub F dX2_numberHere_67 ?_
  refine v_iconst F dX2_numberHere_68 ⟨by decide, by decide⟩ ?_
  refine v_icmp_gt F dX2_numberHere_69 rfl (fun hq4 => ?_) (fun hq4 => ?_)
  · rw [if_pos hq4] at h
    refine v_ldc (n := 99999) F dX2_numberHere_79 q1427 rfl ⟨by decide, by decide⟩ ?_
    refine v_fgt (L' := [mU, mU]) ⟨Or.inr rfl, Or.inl rfl, trivial⟩ ?_
    exact fX2_numberHere_81_ok F hX hp h K
  · rw [if_neg hq4] at h
    refine v_aload_n F dX2_numberHere_72 rfl rfl ?_
    refine gf_X2_182 F dX2_numberHere_73 hp ?_
    refine v_goto F dX2_numberHere_76 rfl ?_
    refine v_fgt (L' := [mU, mU]) ⟨Or.inr rfl, Or.inl rfl, trivial⟩ ?_
    exact fX2_numberHere_81_ok F hX hp h K
theorem fX2_numberHere_10f_ok {w : Wd} {l : Launch} {G : Cx} {m dd : Dt} {d' : Dt} {s : Dt × Int} {x : ((Dt × Int) ⊕ Dt)} (F : Fx w G cX2_numberHere RX2 2 none { frames := 0, cells := 0, slots := 0, locals := 0 }) (hX : WF dd m) (hp : PB m 10 2) (h : fX2_numberHere_10f s = some x) (K : (Sum.elim (fX2_numberHere_10P w l G (QM w G WF none d' m 0 0) m) (fun q => q = d')) x) : V w l WF G (QM w G WF none d' m 0 0) s.1 m 0 0 10 [mA 10, mI (s.2)] [] := by
  obtain ⟨d, v1⟩ := s
  unfold fX2_numberHere_10f at h
  dsimp only at h
  refine v_iload_n F dX2_numberHere_10 rfl rfl ?_
  refine v_aload_n F dX2_numberHere_11 rfl rfl ?_
  refine gf_X2_167 F dX2_numberHere_12 hp ?_
  refine v_icmp_ge F dX2_numberHere_15 rfl (fun hq3 => ?_) (fun hq3 => ?_)
  · rw [if_pos hq3] at h
    obtain ⟨z, hu, ez⟩ := up_some h
    clear h
    subst ez
    have h := hu
    clear hu
    refine v_fgt (L' := [mA 10, mU]) ⟨Or.inl rfl, Or.inr rfl, trivial⟩ ?_
    exact fX2_numberHere_58_ok F hX hp h K
  · rw [if_neg hq3] at h
    refine v_aload_n F dX2_numberHere_18 rfl rfl ?_
    refine gf_X2_167 F dX2_numberHere_19 hp ?_
    refine v_aload_n F dX2_numberHere_22 rfl rfl ?_
    refine gf_X2_150 F dX2_numberHere_23 hp ?_
    refine v_isub F dX2_numberHere_26 ?_
    refine v_iconst F dX2_numberHere_27 ⟨by decide, by decide⟩ ?_
    refine v_icmp_gt F dX2_numberHere_28 rfl (fun hq6 => ?_) (fun hq6 => ?_)
    · rw [if_pos hq6] at h
      obtain ⟨z, hu, ez⟩ := up_some h
      clear h
      subst ez
      have h := hu
      clear hu
      refine v_fgt (L' := [mA 10, mU]) ⟨Or.inl rfl, Or.inr rfl, trivial⟩ ?_
      exact fX2_numberHere_58_ok F hX hp h K
    · rw [if_neg hq6] at h
      refine v_aload_n F dX2_numberHere_31 rfl rfl ?_
      refine v_bipush F dX2_numberHere_32 rfl ⟨by decide, by decide⟩ ?_
      refine v_aload_n F dX2_numberHere_34 rfl rfl ?_
      refine gf_X2_182 F dX2_numberHere_35 hp ?_
      refine v_imul F dX2_numberHere_38 ?_
      refine v_aload_n F dX2_numberHere_39 rfl rfl ?_
      refine gf_X2_26 F dX2_numberHere_40 hp (v := 2) rfl ?_
      refine v_iload_n F dX2_numberHere_43 rfl rfl ?_
      obtain ⟨hi7, h⟩ := ck_some h
      refine v_bald F dX2_numberHere_44 (ar_X2_3 hX hp) hi7 ?_
      refine v_iadd F dX2_numberHere_45 ?_
      refine v_bipush F dX2_numberHere_46 rfl ⟨by decide, by decide⟩ ?_
      refine v_isub F dX2_numberHere_48 ?_
      obtain ⟨d8, ed8, h⟩ := sd_some h
      refine pf_X2_182 F dX2_numberHere_49 hp ?_
      refine v_nD ed8 ?_
      obtain ⟨x9, ex9, h⟩ := lv_some h
      refine v_iincN F dX2_numberHere_52 (Nat.le_of_ble_eq_true rfl) rfl ex9 (L' := [mA 10, mI x9]) rfl ?_
      refine v_goto F dX2_numberHere_55 rfl ?_
      cases h
      exact K
theorem fX2_numberHere_10_ok {w : Wd} {l : Launch} {G : Cx} {d m dd : Dt} {v1 : Int} {d' : Dt} {x : Dt} (F : Fx w G cX2_numberHere RX2 2 none { frames := 0, cells := 0, slots := 0, locals := 0 }) (hX : WF dd m) (hp : PB m 10 2) (h : fX2_numberHere_10 d v1 = some x) (K : (fun q => q = d') x) : V w l WF G (QM w G WF none d' m 0 0) d m 0 0 10 [mA 10, mI v1] [] := by
  unfold fX2_numberHere_10 at h
  exact loop_ok (P := fX2_numberHere_10P w l G (QM w G WF none d' m 0 0) m) (fun s x hx h1 h2 => fX2_numberHere_10f_ok F hX hp hx (by
    cases x with
    | inl s' => exact h1 s' rfl
    | inr z => cases h2 z rfl; exact K)) h
theorem vm_X2_numberHere {w : Wd} {l : Launch} {d m : Dt} {d' : Dt} (hp : PB m 10 2) (h : fX2_numberHere d = some d') : VM w l WF yX2_numberHere cX2_numberHere 2 none 0 0 0 0 d m [mA 10] none d' m := by
  obtain ⟨x, h, K⟩ : ∃ x, fX2_numberHere d = some x ∧ x = d' := ⟨_, h, rfl⟩
  refine VM.of (L := [mA 10, mU]) (by decide +kernel) rfl (Nat.le_of_ble_eq_true rfl) fun G F _ => v_fact fun _ hX _ _ => ?_
  unfold fX2_numberHere at h
  refine v_aload_n F dX2_numberHere_0 rfl rfl ?_
  refine v_iconst F dX2_numberHere_1 ⟨by decide, by decide⟩ ?_
  obtain ⟨d1, ed1, h⟩ := sd_some h
  refine pf_X2_182 F dX2_numberHere_2 hp ?_
  refine v_nD ed1 ?_
  refine v_aload_n F dX2_numberHere_5 rfl rfl ?_
  refine gf_X2_150 F dX2_numberHere_6 hp ?_
  obtain ⟨x2, ex2, h⟩ := lv_some h
  refine v_nI ex2 ?_
  refine v_istore_n F dX2_numberHere_9 rfl (Nat.le_of_ble_eq_true rfl) (L' := [mA 10, mI x2]) rfl ?_
  exact fX2_numberHere_10_ok F hX hp h K
def fX2_take_8P (w : Wd) (l : Launch) (G : Cx) (Q : State → Prop) (m : Dt) (s : Dt) : Prop := V w l WF G Q s m 0 0 8 [mA 10] []
def fX2_take_118P (w : Wd) (l : Launch) (G : Cx) (Q : State → Prop) (m : Dt) (s : Dt) : Prop := V w l WF G Q s m 0 0 118 [mA 10] []
def fX2_take_150P (w : Wd) (l : Launch) (G : Cx) (Q : State → Prop) (m : Dt) (s : Dt) : Prop := V w l WF G Q s m 0 0 150 [mA 10] []
theorem fX2_take_182_ok {w : Wd} {l : Launch} {G : Cx} {d m dd : Dt} {d' : Dt} {x : Dt} (F : Fx w G cX2_take RX2 1 none { frames := 6, cells := 0, slots := 0, locals := 128 }) (hX : WF dd m) (hp : PB m 10 2) (h : fX2_take_182 d = some x) (K : (fun q => q = d') x) : V w l WF G (QM w G WF none d' m 0 0) d m 0 0 182 [mA 10] [] := by
  unfold fX2_take_182 at h
  refine v_aload_n F dX2_take_182 rfl rfl ?_
  refine gf_X2_193 F dX2_take_183 hp ?_
  refine v_iconst F dX2_take_186 ⟨by decide, by decide⟩ ?_
  refine v_icmp_ne F dX2_take_187 rfl (fun hq14 => ?_) (fun hq14 => ?_)
  · rw [if_neg hq14] at h
    refine v_aload_n F dX2_take_201 rfl rfl ?_
    refine gf_X2_193 F dX2_take_202 hp ?_
    refine v_iconst F dX2_take_205 ⟨by decide, by decide⟩ ?_
    refine v_icmp_ne F dX2_take_206 rfl (fun hq15 => ?_) (fun hq15 => ?_)
    · rw [if_neg hq15] at h
      refine v_aload_n F dX2_take_216 rfl rfl ?_
      refine gf_X2_193 F dX2_take_217 hp ?_
      refine v_iconst F dX2_take_220 ⟨by decide, by decide⟩ ?_
      refine v_icmp_ne F dX2_take_221 rfl (fun hq16 => ?_) (fun hq16 => ?_)
      · rw [if_neg hq16] at h
        cases h
        cases (show _ = d' from K)
        exact v_vret F dX2_take_247
      · rw [if_pos hq16] at h
        refine v_aload_n F dX2_take_224 rfl rfl ?_
        refine v_aload_n F dX2_take_225 rfl rfl ?_
        refine gf_X2_26 F dX2_take_226 hp (v := 2) rfl ?_
        refine v_aload_n F dX2_take_229 rfl rfl ?_
        refine gf_X2_150 F dX2_take_230 hp ?_
        obtain ⟨x17, ex17, h⟩ := lv_some h
        refine v_nI ex17 ?_
        obtain ⟨hi18, h⟩ := ck_some h
        refine v_bald F dX2_take_233 (ar_X2_3 hX hp) hi18 ?_
        obtain ⟨d19, ed19, h⟩ := sd_some h
        refine pf_X2_182 F dX2_take_234 hp ?_
        refine v_nD ed19 ?_
        refine v_aload_n F dX2_take_237 rfl rfl ?_
        refine v_dup_A F dX2_take_238 ?_
        refine gf_X2_167 F dX2_take_239 hp ?_
        refine v_iconst F dX2_take_242 ⟨by decide, by decide⟩ ?_
        refine v_iadd F dX2_take_243 ?_
        obtain ⟨d20, ed20, h⟩ := sd_some h
        refine pf_X2_167 F dX2_take_244 hp ?_
        refine v_nD ed20 ?_
        cases h
        cases (show _ = d' from K)
        exact v_vret F dX2_take_247
    · rw [if_pos hq15] at h
      refine v_aload_n F dX2_take_209 rfl rfl ?_
      obtain ⟨d21, hc22, h⟩ := bd_some h
      refine v_callV0 (c := 2) F dX2_take_210 cv_X2_199 rfl (PB.ob hp hX (Nat.le_of_ble_eq_true rfl)) (Nat.le_of_ble_eq_true rfl) rfl (vm_X2_numberHere hp hc22) rfl (rOk.of rfl) ?_
      refine v_goto F dX2_take_213 rfl ?_
      cases h
      cases (show _ = d' from K)
      exact v_vret F dX2_take_247
  · rw [if_pos hq14] at h
    refine v_aload_n F dX2_take_190 rfl rfl ?_
    refine v_aload_n F dX2_take_191 rfl rfl ?_
    obtain ⟨x23, hc24, h⟩ := b1_some h
    refine v_callVv (c := 2) F dX2_take_192 cv_X2_196 rfl (PB.ob hp hX (Nat.le_of_ble_eq_true rfl)) (Nat.le_of_ble_eq_true rfl) rfl (vm_X2_wordHere hp hc24) rfl (rOk.of rfl) ?_
    obtain ⟨d25, ed25, h⟩ := sd_some h
    refine pf_X2_182 F dX2_take_195 hp ?_
    refine v_nD ed25 ?_
    refine v_goto F dX2_take_198 rfl ?_
    cases h
    cases (show _ = d' from K)
    exact v_vret F dX2_take_247
theorem fX2_take_150f_ok {w : Wd} {l : Launch} {G : Cx} {m dd : Dt} {d' : Dt} {s : Dt} {x : ((Dt) ⊕ Dt)} (F : Fx w G cX2_take RX2 1 none { frames := 6, cells := 0, slots := 0, locals := 128 }) (hX : WF dd m) (hp : PB m 10 2) (h : fX2_take_150f s = some x) (K : (Sum.elim (fX2_take_150P w l G (QM w G WF none d' m 0 0) m) (fun q => q = d')) x) : V w l WF G (QM w G WF none d' m 0 0) s m 0 0 150 [mA 10] [] := by
  obtain ⟨d, rfl⟩ : ∃ z, z = s := ⟨s, rfl⟩
  unfold fX2_take_150f at h
  dsimp only at h
  refine v_aload_n F dX2_take_150 rfl rfl ?_
  refine gf_X2_193 F dX2_take_151 hp ?_
  refine v_iconst F dX2_take_154 ⟨by decide, by decide⟩ ?_
  refine v_icmp_ne F dX2_take_155 rfl (fun hq13 => ?_) (fun hq13 => ?_)
  · rw [if_neg hq13] at h
    obtain ⟨z, hu, ez⟩ := up_some h
    clear h
    subst ez
    have h := hu
    clear hu
    exact fX2_take_182_ok F hX hp h K
  · rw [if_pos hq13] at h
    refine v_aload_n F dX2_take_158 rfl rfl ?_
    refine v_aload_n F dX2_take_159 rfl rfl ?_
    refine gf_X2_167 F dX2_take_160 hp ?_
    obtain ⟨x26, hc27, h⟩ := b1_some h
    refine v_callVv (c := 2) F dX2_take_163 cv_X2_190 rfl (PB.ob hp hX (Nat.le_of_ble_eq_true rfl)) (Nat.le_of_ble_eq_true rfl) rfl (vm_X2_isDigit hp hc27) rfl (rOk.of rfl) ?_
    refine v_if_eq F dX2_take_166 rfl (fun hq28 => ?_) (fun hq28 => ?_)
    · rw [if_pos hq28] at h
      obtain ⟨z, hu, ez⟩ := up_some h
      clear h
      subst ez
      have h := hu
      clear hu
      exact fX2_take_182_ok F hX hp h K
    · rw [if_neg hq28] at h
      refine v_aload_n F dX2_take_169 rfl rfl ?_
      refine v_dup_A F dX2_take_170 ?_
      refine gf_X2_167 F dX2_take_171 hp ?_
      refine v_iconst F dX2_take_174 ⟨by decide, by decide⟩ ?_
      refine v_iadd F dX2_take_175 ?_
      obtain ⟨d29, ed29, h⟩ := sd_some h
      refine pf_X2_167 F dX2_take_176 hp ?_
      refine v_nD ed29 ?_
      refine v_goto F dX2_take_179 rfl ?_
      cases h
      exact K
theorem fX2_take_150_ok {w : Wd} {l : Launch} {G : Cx} {d m dd : Dt} {d' : Dt} {x : Dt} (F : Fx w G cX2_take RX2 1 none { frames := 6, cells := 0, slots := 0, locals := 128 }) (hX : WF dd m) (hp : PB m 10 2) (h : fX2_take_150 d = some x) (K : (fun q => q = d') x) : V w l WF G (QM w G WF none d' m 0 0) d m 0 0 150 [mA 10] [] := by
  unfold fX2_take_150 at h
  exact loop_ok (P := fX2_take_150P w l G (QM w G WF none d' m 0 0) m) (fun s x hx h1 h2 => fX2_take_150f_ok F hX hp hx (by
    cases x with
    | inl s' => exact h1 s' rfl
    | inr z => cases h2 z rfl; exact K)) h
theorem fX2_take_118f_ok {w : Wd} {l : Launch} {G : Cx} {m dd : Dt} {d' : Dt} {s : Dt} {x : ((Dt) ⊕ Dt)} (F : Fx w G cX2_take RX2 1 none { frames := 6, cells := 0, slots := 0, locals := 128 }) (hX : WF dd m) (hp : PB m 10 2) (h : fX2_take_118f s = some x) (K : (Sum.elim (fX2_take_118P w l G (QM w G WF none d' m 0 0) m) (fun q => q = d')) x) : V w l WF G (QM w G WF none d' m 0 0) s m 0 0 118 [mA 10] [] := by
  obtain ⟨d, rfl⟩ : ∃ z, z = s := ⟨s, rfl⟩
  unfold fX2_take_118f at h
  dsimp only at h
  refine v_aload_n F dX2_take_118 rfl rfl ?_
  refine gf_X2_193 F dX2_take_119 hp ?_
  refine v_iconst F dX2_take_122 ⟨by decide, by decide⟩ ?_
  refine v_icmp_ne F dX2_take_123 rfl (fun hq12 => ?_) (fun hq12 => ?_)
  · rw [if_neg hq12] at h
    obtain ⟨z, hu, ez⟩ := up_some h
    clear h
    subst ez
    have h := hu
    clear hu
    exact fX2_take_150_ok F hX hp h K
  · rw [if_pos hq12] at h
    refine v_aload_n F dX2_take_126 rfl rfl ?_
    refine v_aload_n F dX2_take_127 rfl rfl ?_
    refine gf_X2_167 F dX2_take_128 hp ?_
    obtain ⟨x30, hc31, h⟩ := b1_some h
    refine v_callVv (c := 2) F dX2_take_131 cv_X2_186 rfl (PB.ob hp hX (Nat.le_of_ble_eq_true rfl)) (Nat.le_of_ble_eq_true rfl) rfl (vm_X2_isLetter hp hc31) rfl (rOk.of rfl) ?_
    refine v_if_eq F dX2_take_134 rfl (fun hq32 => ?_) (fun hq32 => ?_)
    · rw [if_pos hq32] at h
      obtain ⟨z, hu, ez⟩ := up_some h
      clear h
      subst ez
      have h := hu
      clear hu
      exact fX2_take_150_ok F hX hp h K
    · rw [if_neg hq32] at h
      refine v_aload_n F dX2_take_137 rfl rfl ?_
      refine v_dup_A F dX2_take_138 ?_
      refine gf_X2_167 F dX2_take_139 hp ?_
      refine v_iconst F dX2_take_142 ⟨by decide, by decide⟩ ?_
      refine v_iadd F dX2_take_143 ?_
      obtain ⟨d33, ed33, h⟩ := sd_some h
      refine pf_X2_167 F dX2_take_144 hp ?_
      refine v_nD ed33 ?_
      refine v_goto F dX2_take_147 rfl ?_
      cases h
      exact K
theorem fX2_take_118_ok {w : Wd} {l : Launch} {G : Cx} {d m dd : Dt} {d' : Dt} {x : Dt} (F : Fx w G cX2_take RX2 1 none { frames := 6, cells := 0, slots := 0, locals := 128 }) (hX : WF dd m) (hp : PB m 10 2) (h : fX2_take_118 d = some x) (K : (fun q => q = d') x) : V w l WF G (QM w G WF none d' m 0 0) d m 0 0 118 [mA 10] [] := by
  unfold fX2_take_118 at h
  exact loop_ok (P := fX2_take_118P w l G (QM w G WF none d' m 0 0) m) (fun s x hx h1 h2 => fX2_take_118f_ok F hX hp hx (by
    cases x with
    | inl s' => exact h1 s' rfl
    | inr z => cases h2 z rfl; exact K)) h
theorem fX2_take_115_ok {w : Wd} {l : Launch} {G : Cx} {d m dd : Dt} {s1 : Int} {d' : Dt} {x : Dt} (F : Fx w G cX2_take RX2 1 none { frames := 6, cells := 0, slots := 0, locals := 128 }) (hX : WF dd m) (hp : PB m 10 2) (h : fX2_take_115 d s1 = some x) (K : (fun q => q = d') x) : V w l WF G (QM w G WF none d' m 0 0) d m 0 0 115 [mA 10] [mI s1, mA 10] := by
  unfold fX2_take_115 at h
  obtain ⟨d11, ed11, h⟩ := sd_some h
  refine pf_X2_193 F dX2_take_115 hp ?_
  refine v_nD ed11 ?_
  exact fX2_take_118_ok F hX hp h K
theorem fX2_take_60_ok {w : Wd} {l : Launch} {G : Cx} {d m dd : Dt} {d' : Dt} {x : Dt} (F : Fx w G cX2_take RX2 1 none { frames := 6, cells := 0, slots := 0, locals := 128 }) (hX : WF dd m) (hp : PB m 10 2) (h : fX2_take_60 d = some x) (K : (fun q => q = d') x) : V w l WF G (QM w G WF none d' m 0 0) d m 0 0 60 [mA 10] [] := by
  unfold fX2_take_60 at h
  refine v_aload_n F dX2_take_60 rfl rfl ?_
  refine v_aload_n F dX2_take_61 rfl rfl ?_
  refine gf_X2_150 F dX2_take_62 hp ?_
  obtain ⟨d3, ed3, h⟩ := sd_some h
  refine pf_X2_167 F dX2_take_65 hp ?_
  refine v_nD ed3 ?_
  refine v_aload_n F dX2_take_68 rfl rfl ?_
  refine v_aload_n F dX2_take_69 rfl rfl ?_
  refine gf_X2_150 F dX2_take_70 hp ?_
  refine v_aload_n F dX2_take_73 rfl rfl ?_
  refine gf_X2_160 F dX2_take_74 hp ?_
  refine v_icmp_ne F dX2_take_77 rfl (fun hq4 => ?_) (fun hq4 => ?_)
  · rw [if_neg hq4] at h
    refine v_aload_n F dX2_take_84 rfl rfl ?_
    refine v_aload_n F dX2_take_85 rfl rfl ?_
    refine gf_X2_150 F dX2_take_86 hp ?_
    obtain ⟨x5, hc6, h⟩ := b1_some h
    refine v_callVv (c := 2) F dX2_take_89 cv_X2_186 rfl (PB.ob hp hX (Nat.le_of_ble_eq_true rfl)) (Nat.le_of_ble_eq_true rfl) rfl (vm_X2_isLetter hp hc6) rfl (rOk.of rfl) ?_
    refine v_if_eq F dX2_take_92 rfl (fun hq7 => ?_) (fun hq7 => ?_)
    · rw [if_pos hq7] at h
      refine v_aload_n F dX2_take_99 rfl rfl ?_
      refine v_aload_n F dX2_take_100 rfl rfl ?_
      refine gf_X2_150 F dX2_take_101 hp ?_
      obtain ⟨x8, hc9, h⟩ := b1_some h
      refine v_callVv (c := 2) F dX2_take_104 cv_X2_190 rfl (PB.ob hp hX (Nat.le_of_ble_eq_true rfl)) (Nat.le_of_ble_eq_true rfl) rfl (vm_X2_isDigit hp hc9) rfl (rOk.of rfl) ?_
      refine v_if_eq F dX2_take_107 rfl (fun hq10 => ?_) (fun hq10 => ?_)
      · rw [if_pos hq10] at h
        refine v_iconst F dX2_take_114 ⟨by decide, by decide⟩ ?_
        exact fX2_take_115_ok F hX hp h K
      · rw [if_neg hq10] at h
        refine v_iconst F dX2_take_110 ⟨by decide, by decide⟩ ?_
        refine v_goto F dX2_take_111 rfl ?_
        exact fX2_take_115_ok F hX hp h K
    · rw [if_neg hq7] at h
      refine v_iconst F dX2_take_95 ⟨by decide, by decide⟩ ?_
      refine v_goto F dX2_take_96 rfl ?_
      exact fX2_take_115_ok F hX hp h K
  · rw [if_pos hq4] at h
    refine v_iconst F dX2_take_80 ⟨by decide, by decide⟩ ?_
    refine v_goto F dX2_take_81 rfl ?_
    exact fX2_take_115_ok F hX hp h K
theorem fX2_take_47_ok {w : Wd} {l : Launch} {G : Cx} {d m dd : Dt} {d' : Dt} {x : ((Dt) ⊕ Dt)} (F : Fx w G cX2_take RX2 1 none { frames := 6, cells := 0, slots := 0, locals := 128 }) (hX : WF dd m) (hp : PB m 10 2) (h : fX2_take_47 d = some x) (K : (Sum.elim (fX2_take_8P w l G (QM w G WF none d' m 0 0) m) (fun q => q = d')) x) : V w l WF G (QM w G WF none d' m 0 0) d m 0 0 47 [mA 10] [] := by
  unfold fX2_take_47 at h
  refine v_aload_n F dX2_take_47 rfl rfl ?_
  refine v_dup_A F dX2_take_48 ?_
  refine gf_X2_150 F dX2_take_49 hp ?_
  refine v_iconst F dX2_take_52 ⟨by decide, by decide⟩ ?_
  refine v_iadd F dX2_take_53 ?_
  obtain ⟨d37, ed37, h⟩ := sd_some h
  refine pf_X2_150 F dX2_take_54 hp ?_
  refine v_nD ed37 ?_
  refine v_goto F dX2_take_57 rfl ?_
  cases h
  exact K
theorem fX2_take_8f_ok {w : Wd} {l : Launch} {G : Cx} {m dd : Dt} {d' : Dt} {s : Dt} {x : ((Dt) ⊕ Dt)} (F : Fx w G cX2_take RX2 1 none { frames := 6, cells := 0, slots := 0, locals := 128 }) (hX : WF dd m) (hp : PB m 10 2) (h : fX2_take_8f s = some x) (K : (Sum.elim (fX2_take_8P w l G (QM w G WF none d' m 0 0) m) (fun q => q = d')) x) : V w l WF G (QM w G WF none d' m 0 0) s m 0 0 8 [mA 10] [] := by
  obtain ⟨d, rfl⟩ : ∃ z, z = s := ⟨s, rfl⟩
  unfold fX2_take_8f at h
  dsimp only at h
  refine v_aload_n F dX2_take_8 rfl rfl ?_
  refine gf_X2_150 F dX2_take_9 hp ?_
  refine v_aload_n F dX2_take_12 rfl rfl ?_
  refine gf_X2_160 F dX2_take_13 hp ?_
  refine v_icmp_ge F dX2_take_16 rfl (fun hq2 => ?_) (fun hq2 => ?_)
  · rw [if_pos hq2] at h
    obtain ⟨z, hu, ez⟩ := up_some h
    clear h
    subst ez
    have h := hu
    clear hu
    exact fX2_take_60_ok F hX hp h K
  · rw [if_neg hq2] at h
    refine v_aload_n F dX2_take_19 rfl rfl ?_
    refine gf_X2_26 F dX2_take_20 hp (v := 2) rfl ?_
    refine v_aload_n F dX2_take_23 rfl rfl ?_
    refine gf_X2_150 F dX2_take_24 hp ?_
    obtain ⟨x34, ex34, h⟩ := lv_some h
    refine v_nI ex34 ?_
    obtain ⟨hi35, h⟩ := ck_some h
    refine v_bald F dX2_take_27 (ar_X2_3 hX hp) hi35 ?_
    refine v_bipush F dX2_take_28 rfl ⟨by decide, by decide⟩ ?_
    refine v_icmp_eq F dX2_take_30 rfl (fun hq36 => ?_) (fun hq36 => ?_)
    · rw [if_pos hq36] at h
      exact fX2_take_47_ok F hX hp h K
    · rw [if_neg hq36] at h
      refine v_aload_n F dX2_take_33 rfl rfl ?_
      refine gf_X2_26 F dX2_take_34 hp (v := 2) rfl ?_
      refine v_aload_n F dX2_take_37 rfl rfl ?_
      refine gf_X2_150 F dX2_take_38 hp ?_
      obtain ⟨x38, ex38, h⟩ := lv_some h
      refine v_nI ex38 ?_
      obtain ⟨hi39, h⟩ := ck_some h
      refine v_bald F dX2_take_41 (ar_X2_3 hX hp) hi39 ?_
      refine v_bipush F dX2_take_42 rfl ⟨by decide, by decide⟩ ?_
      refine v_icmp_ne F dX2_take_44 rfl (fun hq40 => ?_) (fun hq40 => ?_)
      · rw [if_neg hq40] at h
        obtain ⟨z, hu, ez⟩ := up_some h
        clear h
        subst ez
        have h := hu
        clear hu
        exact fX2_take_60_ok F hX hp h K
      · rw [if_pos hq40] at h
        exact fX2_take_47_ok F hX hp h K
theorem fX2_take_8_ok {w : Wd} {l : Launch} {G : Cx} {d m dd : Dt} {d' : Dt} {x : Dt} (F : Fx w G cX2_take RX2 1 none { frames := 6, cells := 0, slots := 0, locals := 128 }) (hX : WF dd m) (hp : PB m 10 2) (h : fX2_take_8 d = some x) (K : (fun q => q = d') x) : V w l WF G (QM w G WF none d' m 0 0) d m 0 0 8 [mA 10] [] := by
  unfold fX2_take_8 at h
  exact loop_ok (P := fX2_take_8P w l G (QM w G WF none d' m 0 0) m) (fun s x hx h1 h2 => fX2_take_8f_ok F hX hp hx (by
    cases x with
    | inl s' => exact h1 s' rfl
    | inr z => cases h2 z rfl; exact K)) h
theorem vm_X2_take {w : Wd} {l : Launch} {d m : Dt} {d' : Dt} (hp : PB m 10 2) (h : fX2_take d = some d') : VM w l WF yX2_take cX2_take 1 none 6 128 0 0 d m [mA 10] none d' m := by
  obtain ⟨x, h, K⟩ : ∃ x, fX2_take d = some x ∧ x = d' := ⟨_, h, rfl⟩
  refine VM.of (L := [mA 10]) (by decide +kernel) rfl (Nat.le_of_ble_eq_true rfl) fun G F _ => v_fact fun _ hX _ _ => ?_
  unfold fX2_take at h
  refine v_aload_n F dX2_take_0 rfl rfl ?_
  refine v_aload_n F dX2_take_1 rfl rfl ?_
  refine gf_X2_167 F dX2_take_2 hp ?_
  obtain ⟨d1, ed1, h⟩ := sd_some h
  refine pf_X2_150 F dX2_take_5 hp ?_
  refine v_nD ed1 ?_
  exact fX2_take_8_ok F hX hp h K
theorem vm_X2_bad {w : Wd} {l : Launch} {d m : Dt} {d' : Dt} {r : Int} (hp : PB m 10 2) (h : fX2_bad d = some (d', r)) : VM w l WF yX2_bad cX2_bad 1 (some (.object "ElectionHouse$Fault")) 0 0 0 0 d m [mA 10] (some (mA r)) d' m := by
  obtain ⟨x, h, K⟩ : ∃ x, fX2_bad d = some x ∧ x = (d', r) := ⟨_, h, rfl⟩
  refine VM.of (L := [mA 10]) (by decide +kernel) rfl (Nat.le_of_ble_eq_true rfl) fun G F _ => v_fact fun _ hX _ _ => ?_
  unfold fX2_bad at h
  refine v_aload_n F dX2_bad_0 rfl rfl ?_
  refine gf_X2_12 F dX2_bad_1 hp (v := 11) rfl ?_
  refine v_aload_n F dX2_bad_4 rfl rfl ?_
  refine gf_X2_150 F dX2_bad_5 hp ?_
  obtain ⟨d1, ed1, h⟩ := sd_some h
  refine pf_X2_154 F dX2_bad_8 (ob_X2_1 hX hp) ?_
  refine v_nD ed1 ?_
  refine v_aload_n F dX2_bad_11 rfl rfl ?_
  refine gf_X2_12 F dX2_bad_12 hp (v := 11) rfl ?_
  cases h
  cases (show _ = (d', r) from K)
  exact v_aret F rfl (Or.inl ⟨_, rfl⟩) dX2_bad_15
theorem bad11 {d d' : Dt} {x : Int} (h : fX2_bad d = some (d', x)) : x = 11 := by
  unfold fX2_bad at h
  obtain ⟨d1, -, h⟩ := sd_some h
  cases h
  rfl
theorem fX2_oneOf_20_ok {w : Wd} {l : Launch} {G : Cx} {d m dd : Dt} {a1 a2 : Int} {d' : Dt} {r : Option Int} {x : (Dt × Option Int)} (F : Fx w G cX2_oneOf RX2 4 (some .int) { frames := 7, cells := 0, slots := 0, locals := 148 }) (hX : WF dd m) (hT : NoT G) (hp : PB m 10 2) (h : fX2_oneOf_20 d a1 a2 = some x) (K : (fun q => q = (d', r)) x) : V w l WF G (QX w G WF (r.map fun v => some (mI v)) d' m) d m 0 0 20 [mA 10, mU, mU, mU] [] := by
  unfold fX2_oneOf_20 at h
  refine v_aload_n F dX2_oneOf_20 rfl rfl ?_
  obtain ⟨d2, x4, hc3, h⟩ := b2_some h
  obtain rfl := bad11 hc3
  refine v_callVv (c := 2) F dX2_oneOf_21 cv_X2_205 rfl (PB.ob hp hX (Nat.le_of_ble_eq_true rfl)) (Nat.le_of_ble_eq_true rfl) rfl (vm_X2_bad hp hc3) rfl (rOk.of rfl) ?_
  refine v_athrow F dX2_oneOf_24 ?_
  cases h
  cases (show _ = (d', r) from K)
  exact v_leave F hT (PB.ob (ob_X2_1 hX hp (v := 11)) hX (Nat.le_of_ble_eq_true rfl))
theorem vm_X2_oneOf {w : Wd} {l : Launch} {d m : Dt} {a1 a2 : Int} {d' : Dt} {r : Option Int} (hp : PB m 10 2) (h : fX2_oneOf d a1 a2 = some (d', r)) : VMX w l WF yX2_oneOf cX2_oneOf 4 (some .int) 7 148 d m [mA 10, mI a1, mI a2] (r.map fun v => some (mI v)) d' m := by
  obtain ⟨x, h, K⟩ : ∃ x, fX2_oneOf d a1 a2 = some x ∧ x = (d', r) := ⟨_, h, rfl⟩
  refine VMX.of (L := [mA 10, mI a1, mI a2, mU]) (by decide +kernel) rfl (Nat.le_of_ble_eq_true rfl) fun G F hT => v_fact fun _ hX _ _ => ?_
  unfold fX2_oneOf at h
  refine v_aload_n F dX2_oneOf_0 rfl rfl ?_
  refine gf_X2_193 F dX2_oneOf_1 hp ?_
  refine v_iconst F dX2_oneOf_4 ⟨by decide, by decide⟩ ?_
  refine v_icmp_ne F dX2_oneOf_5 rfl (fun hq1 => ?_) (fun hq1 => ?_)
  · rw [if_neg hq1] at h
    refine v_fgt (L' := [mA 10, mU, mU, mU]) ⟨Or.inl rfl, Or.inr rfl, Or.inr rfl, Or.inl rfl, trivial⟩ ?_
    exact fX2_oneOf_20_ok F hX hT hp h K
  · rw [if_pos hq1] at h
    refine v_aload_n F dX2_oneOf_8 rfl rfl ?_
    refine gf_X2_182 F dX2_oneOf_9 hp ?_
    refine v_iload_n F dX2_oneOf_12 rfl rfl ?_
    refine v_iload_n F dX2_oneOf_13 rfl rfl ?_
    refine v_callSv F dX2_oneOf_14 cs_X2_163 rfl (vm_X0_within) rfl (rOk.of rfl) ?_
    refine v_if_ne F dX2_oneOf_17 rfl (fun hq5 => ?_) (fun hq5 => ?_)
    · rw [if_neg hq5] at h
      refine v_aload_n F dX2_oneOf_25 rfl rfl ?_
      refine gf_X2_182 F dX2_oneOf_26 hp ?_
      refine v_iload_n F dX2_oneOf_29 rfl rfl ?_
      refine v_isub F dX2_oneOf_30 ?_
      obtain ⟨x6, ex6, h⟩ := lv_some h
      refine v_nI ex6 ?_
      refine v_istore_n F dX2_oneOf_31 rfl (Nat.le_of_ble_eq_true rfl) (L' := [mA 10, mI a1, mI a2, mI x6]) rfl ?_
      refine v_aload_n F dX2_oneOf_32 rfl rfl ?_
      obtain ⟨d7, hc8, h⟩ := bd_some h
      refine v_callV0 (c := 2) F dX2_oneOf_33 cv_X2_209 rfl (PB.ob hp hX (Nat.le_of_ble_eq_true rfl)) (Nat.le_of_ble_eq_true rfl) rfl (vm_X2_take hp hc8) rfl (rOk.of rfl) ?_
      refine v_iload_n F dX2_oneOf_36 rfl rfl ?_
      cases h
      cases (show _ = (d', r) from K)
      refine v_xret ?_
      exact v_iret F dX2_oneOf_37
    · rw [if_pos hq5] at h
      refine v_fgt (L' := [mA 10, mU, mU, mU]) ⟨Or.inl rfl, Or.inr rfl, Or.inr rfl, Or.inl rfl, trivial⟩ ?_
      exact fX2_oneOf_20_ok F hX hT hp h K
theorem fX2_note_20_ok {w : Wd} {l : Launch} {G : Cx} {d m dd : Dt} {a1 a2 : Int} {d' : Dt} {x : Dt} (F : Fx w G cX2_note RX2 3 none { frames := 0, cells := 0, slots := 0, locals := 0 }) (hX : WF dd m) (hp : PB m 10 2) (h : fX2_note_20 d a1 a2 = some x) (K : (fun q => q = d') x) : V w l WF G (QM w G WF none d' m 0 0) d m 0 0 20 [mA 10, mU, mI a2] [] := by
  unfold fX2_note_20 at h
  refine v_aload_n F dX2_note_20 rfl rfl ?_
  refine v_iload_n F dX2_note_21 rfl rfl ?_
  obtain ⟨d3, ed3, h⟩ := sd_some h
  refine pf_X2_157 F dX2_note_22 hp ?_
  refine v_nD ed3 ?_
  cases h
  cases (show _ = d' from K)
  exact v_vret F dX2_note_25
theorem vm_X2_note {w : Wd} {l : Launch} {d m : Dt} {a1 a2 : Int} {d' : Dt} (hp : PB m 10 2) (h : fX2_note d a1 a2 = some d') : VM w l WF yX2_note cX2_note 3 none 0 0 0 0 d m [mA 10, mI a1, mI a2] none d' m := by
  obtain ⟨x, h, K⟩ : ∃ x, fX2_note d a1 a2 = some x ∧ x = d' := ⟨_, h, rfl⟩
  refine VM.of (L := [mA 10, mI a1, mI a2]) (by decide +kernel) rfl (Nat.le_of_ble_eq_true rfl) fun G F _ => v_fact fun _ hX _ _ => ?_
  unfold fX2_note at h
  refine v_iload_n F dX2_note_0 rfl rfl ?_
  refine v_if_ne F dX2_note_1 rfl (fun hq1 => ?_) (fun hq1 => ?_)
  · rw [if_neg hq1] at h
    cases h
    cases (show _ = d' from K)
    exact v_vret F dX2_note_25
  · rw [if_pos hq1] at h
    refine v_aload_n F dX2_note_4 rfl rfl ?_
    refine gf_X2_157 F dX2_note_5 hp ?_
    refine v_iconst F dX2_note_8 ⟨by decide, by decide⟩ ?_
    refine v_icmp_eq F dX2_note_9 rfl (fun hq2 => ?_) (fun hq2 => ?_)
    · rw [if_pos hq2] at h
      refine v_fgt (L' := [mA 10, mU, mI a2]) ⟨Or.inl rfl, Or.inr rfl, Or.inl rfl, trivial⟩ ?_
      exact fX2_note_20_ok F hX hp h K
    · rw [if_neg hq2] at h
      refine v_iload_n F dX2_note_12 rfl rfl ?_
      refine v_aload_n F dX2_note_13 rfl rfl ?_
      refine gf_X2_157 F dX2_note_14 hp ?_
      refine v_icmp_ge F dX2_note_17 rfl (fun hq4 => ?_) (fun hq4 => ?_)
      · rw [if_pos hq4] at h
        cases h
        cases (show _ = d' from K)
        exact v_vret F dX2_note_25
      · rw [if_neg hq4] at h
        refine v_fgt (L' := [mA 10, mU, mI a2]) ⟨Or.inl rfl, Or.inr rfl, Or.inl rfl, trivial⟩ ?_
        exact fX2_note_20_ok F hX hp h K
theorem vm_X2_isWordHere {w : Wd} {l : Launch} {d m : Dt} {a1 : Int} (hp : PB m 10 2) : VM w l WF yX2_isWordHere cX2_isWordHere 2 (some .boolean) 0 0 0 0 d m [mA 10, mI a1] (some (mI (fX2_isWordHere d a1))) d m := by
  obtain ⟨r, hr⟩ : ∃ r, fX2_isWordHere d a1 = r := ⟨_, rfl⟩
  rw [hr]
  obtain ⟨x, h, K⟩ : ∃ x, fX2_isWordHere d a1 = x ∧ x = r := ⟨_, hr, rfl⟩
  refine VM.of (L := [mA 10, mI a1]) (by decide +kernel) rfl (Nat.le_of_ble_eq_true rfl) fun G F _ => v_fact fun _ hX _ _ => ?_
  unfold fX2_isWordHere at h
  refine v_aload_n F dX2_isWordHere_0 rfl rfl ?_
  refine gf_X2_193 F dX2_isWordHere_1 hp ?_
  refine v_iconst F dX2_isWordHere_4 ⟨by decide, by decide⟩ ?_
  refine v_icmp_ne F dX2_isWordHere_5 rfl (fun hq1 => ?_) (fun hq1 => ?_)
  · rw [if_neg hq1] at h
    refine v_iconst F dX2_isWordHere_20 ⟨by decide, by decide⟩ ?_
    subst h
    cases (show _ = r from K)
    exact v_zret F (Or.inl rfl) dX2_isWordHere_21
  · rw [if_pos hq1] at h
    refine v_aload_n F dX2_isWordHere_8 rfl rfl ?_
    refine gf_X2_182 F dX2_isWordHere_9 hp ?_
    refine v_iload_n F dX2_isWordHere_12 rfl rfl ?_
    refine v_icmp_ne F dX2_isWordHere_13 rfl (fun hq2 => ?_) (fun hq2 => ?_)
    · rw [if_neg hq2] at h
      refine v_iconst F dX2_isWordHere_20 ⟨by decide, by decide⟩ ?_
      subst h
      cases (show _ = r from K)
      exact v_zret F (Or.inl rfl) dX2_isWordHere_21
    · rw [if_pos hq2] at h
      refine v_iconst F dX2_isWordHere_16 ⟨by decide, by decide⟩ ?_
      refine v_goto F dX2_isWordHere_17 rfl ?_
      subst h
      cases (show _ = r from K)
      exact v_zret F (Or.inr rfl) dX2_isWordHere_21
theorem fX2_isWordHere_z {d : Dt} {a1 : Int} : fX2_isWordHere d a1 = 0 ∨ fX2_isWordHere d a1 = 1 := by
  unfold fX2_isWordHere
  repeat' (first | exact Or.inl rfl | exact Or.inr rfl | split | assumption)
theorem vm_X2_word {w : Wd} {l : Launch} {d m : Dt} {a1 : Int} {d' : Dt} {r : Option Int} (hp : PB m 10 2) (h : fX2_word d a1 = some (d', r)) : VMX w l WF yX2_word cX2_word 2 none 7 148 d m [mA 10, mI a1] (r.map fun _ => none) d' m := by
  obtain ⟨x, h, K⟩ : ∃ x, fX2_word d a1 = some x ∧ x = (d', r) := ⟨_, h, rfl⟩
  refine VMX.of (L := [mA 10, mI a1]) (by decide +kernel) rfl (Nat.le_of_ble_eq_true rfl) fun G F hT => v_fact fun _ hX _ _ => ?_
  unfold fX2_word at h
  refine v_aload_n F dX2_word_0 rfl rfl ?_
  refine v_iload_n F dX2_word_1 rfl rfl ?_
  refine v_callVv (c := 2) F dX2_word_2 cv_X2_202 rfl (PB.ob hp hX (Nat.le_of_ble_eq_true rfl)) (Nat.le_of_ble_eq_true rfl) rfl (vm_X2_isWordHere hp) rfl (rOk.of rfl) ?_
  refine v_if_ne F dX2_word_5 rfl (fun hq1 => ?_) (fun hq1 => ?_)
  · rw [if_neg hq1] at h
    refine v_aload_n F dX2_word_13 rfl rfl ?_
    obtain ⟨d2, hc3, h⟩ := bd_some h
    refine v_callV0 (c := 2) F dX2_word_14 cv_X2_209 rfl (PB.ob hp hX (Nat.le_of_ble_eq_true rfl)) (Nat.le_of_ble_eq_true rfl) rfl (vm_X2_take hp hc3) rfl (rOk.of rfl) ?_
    cases h
    cases (show _ = (d', r) from K)
    refine v_xret ?_
    exact v_vret F dX2_word_17
  · rw [if_pos hq1] at h
    refine v_aload_n F dX2_word_8 rfl rfl ?_
    obtain ⟨d4, x6, hc5, h⟩ := b2_some h
    obtain rfl := bad11 hc5
    refine v_callVv (c := 2) F dX2_word_9 cv_X2_205 rfl (PB.ob hp hX (Nat.le_of_ble_eq_true rfl)) (Nat.le_of_ble_eq_true rfl) rfl (vm_X2_bad hp hc5) rfl (rOk.of rfl) ?_
    refine v_athrow F dX2_word_12 ?_
    cases h
    cases (show _ = (d', r) from K)
    exact v_leave F hT (PB.ob (ob_X2_1 hX hp (v := 11)) hX (Nat.le_of_ble_eq_true rfl))
theorem fX2_number_32_ok {w : Wd} {l : Launch} {G : Cx} {d m dd : Dt} {s1 : Int} {d' : Dt} {r : Option Int} {x : (Dt × Option Int)} (F : Fx w G cX2_number RX2 2 (some .int) { frames := 7, cells := 0, slots := 0, locals := 148 }) (hX : WF dd m) (hT : NoT G) (hp : PB m 10 2) (h : fX2_number_32 d s1 = some x) (K : (fun q => q = (d', r)) x) : V w l WF G (QX w G WF (r.map fun v => some (mI v)) d' m) d m 0 0 32 [mA 10, mU] [mI s1, mA 10] := by
  unfold fX2_number_32 at h
  refine v_aload_n F dX2_number_32 rfl rfl ?_
  refine gf_X2_150 F dX2_number_33 hp ?_
  obtain ⟨d3, hc4, h⟩ := bd_some h
  refine v_callV0 (c := 2) F dX2_number_36 cv_X2_215 rfl (PB.ob hp hX (Nat.le_of_ble_eq_true rfl)) (Nat.le_of_ble_eq_true rfl) rfl (vm_X2_note hp hc4) rfl (rOk.of rfl) ?_
  refine v_aload_n F dX2_number_39 rfl rfl ?_
  refine gf_X2_182 F dX2_number_40 hp ?_
  obtain ⟨x5, ex5, h⟩ := lv_some h
  refine v_nI ex5 ?_
  refine v_istore_n F dX2_number_43 rfl (Nat.le_of_ble_eq_true rfl) (L' := [mA 10, mI x5]) rfl ?_
  refine v_aload_n F dX2_number_44 rfl rfl ?_
  obtain ⟨d6, hc7, h⟩ := bd_some h
  refine v_callV0 (c := 2) F dX2_number_45 cv_X2_209 rfl (PB.ob hp hX (Nat.le_of_ble_eq_true rfl)) (Nat.le_of_ble_eq_true rfl) rfl (vm_X2_take hp hc7) rfl (rOk.of rfl) ?_
  refine v_iload_n F dX2_number_48 rfl rfl ?_
  cases h
  cases (show _ = (d', r) from K)
  refine v_xret ?_
  exact v_iret F dX2_number_49
theorem vm_X2_number {w : Wd} {l : Launch} {d m : Dt} {d' : Dt} {r : Option Int} (hp : PB m 10 2) (h : fX2_number d = some (d', r)) : VMX w l WF yX2_number cX2_number 2 (some .int) 7 148 d m [mA 10] (r.map fun v => some (mI v)) d' m := by
  obtain ⟨x, h, K⟩ : ∃ x, fX2_number d = some x ∧ x = (d', r) := ⟨_, h, rfl⟩
  refine VMX.of (L := [mA 10, mU]) (by decide +kernel) rfl (Nat.le_of_ble_eq_true rfl) fun G F hT => v_fact fun _ hX _ _ => ?_
  unfold fX2_number at h
  refine v_aload_n F dX2_number_0 rfl rfl ?_
  refine gf_X2_193 F dX2_number_1 hp ?_
  refine v_iconst F dX2_number_4 ⟨by decide, by decide⟩ ?_
  refine v_icmp_eq F dX2_number_5 rfl (fun hq1 => ?_) (fun hq1 => ?_)
  · rw [if_pos hq1] at h
    refine v_aload_n F dX2_number_13 rfl rfl ?_
    refine v_aload_n F dX2_number_14 rfl rfl ?_
    refine gf_X2_167 F dX2_number_15 hp ?_
    refine v_aload_n F dX2_number_18 rfl rfl ?_
    refine gf_X2_150 F dX2_number_19 hp ?_
    refine v_isub F dX2_number_22 ?_
    refine v_iconst F dX2_number_23 ⟨by decide, by decide⟩ ?_
    refine v_icmp_gt F dX2_number_24 rfl (fun hq2 => ?_) (fun hq2 => ?_)
    · rw [if_pos hq2] at h
      refine v_iconst F dX2_number_31 ⟨by decide, by decide⟩ ?_
      exact fX2_number_32_ok F hX hT hp h K
    · rw [if_neg hq2] at h
      refine v_iconst F dX2_number_27 ⟨by decide, by decide⟩ ?_
      refine v_goto F dX2_number_28 rfl ?_
      exact fX2_number_32_ok F hX hT hp h K
  · rw [if_neg hq1] at h
    refine v_aload_n F dX2_number_8 rfl rfl ?_
    obtain ⟨d8, x10, hc9, h⟩ := b2_some h
    obtain rfl := bad11 hc9
    refine v_callVv (c := 2) F dX2_number_9 cv_X2_205 rfl (PB.ob hp hX (Nat.le_of_ble_eq_true rfl)) (Nat.le_of_ble_eq_true rfl) rfl (vm_X2_bad hp hc9) rfl (rOk.of rfl) ?_
    refine v_athrow F dX2_number_12 ?_
    cases h
    cases (show _ = (d', r) from K)
    exact v_leave F hT (PB.ob (ob_X2_1 hX hp (v := 11)) hX (Nat.le_of_ble_eq_true rfl))
theorem vm_X2_area {w : Wd} {l : Launch} {d m : Dt} {d' : Dt} {r : Option Int} (hp : PB m 10 2) (h : fX2_area d = some (d', r)) : VMX w l WF yX2_area cX2_area 3 (some .int) 8 169 d m [mA 10] (r.map fun v => some (mI v)) d' m := by
  obtain ⟨x, h, K⟩ : ∃ x, fX2_area d = some x ∧ x = (d', r) := ⟨_, h, rfl⟩
  refine VMX.of (L := [mA 10, mU, mU]) (by decide +kernel) rfl (Nat.le_of_ble_eq_true rfl) fun G F hT => v_fact fun _ hX _ _ => ?_
  unfold fX2_area at h
  refine v_aload_n F dX2_area_0 rfl rfl ?_
  refine gf_X2_150 F dX2_area_1 hp ?_
  obtain ⟨x1, ex1, h⟩ := lv_some h
  refine v_nI ex1 ?_
  refine v_istore_n F dX2_area_4 rfl (Nat.le_of_ble_eq_true rfl) (L' := [mA 10, mI x1, mU]) rfl ?_
  refine v_aload_n F dX2_area_5 rfl rfl ?_
  obtain ⟨d2, x4o, hc3, ho5⟩ := bx_some h
  clear h
  rcases ho5 with ⟨rfl, h⟩ | ⟨x4, rfl, h⟩
  · refine v_callXt (c := 2) F dX2_area_6 cl_X2_219 rfl (PB.ob hp hX (Nat.le_of_ble_eq_true rfl)) (Nat.le_of_ble_eq_true rfl) rfl (vm_X2_number hp hc3) rfl (rOk.of rfl) ?_
    cases h
    cases (show _ = (d', r) from K)
    exact v_leave F hT (PB.ob (ob_X2_1 hX hp (v := 11)) hX (Nat.le_of_ble_eq_true rfl))
  refine v_callXv (c := 2) F dX2_area_6 cl_X2_219 rfl (PB.ob hp hX (Nat.le_of_ble_eq_true rfl)) (Nat.le_of_ble_eq_true rfl) rfl (vm_X2_number hp hc3) rfl (rOk.of rfl) ?_
  refine v_istore_n F dX2_area_9 rfl (Nat.le_of_ble_eq_true rfl) (L' := [mA 10, mI x1, mI x4]) rfl ?_
  refine v_aload_n F dX2_area_10 rfl rfl ?_
  refine v_aload_n F dX2_area_11 rfl rfl ?_
  refine gf_X2_30 F dX2_area_12 hp (v := 3) rfl ?_
  refine v_iload_n F dX2_area_15 rfl rfl ?_
  refine v_callVv (c := 1) F dX2_area_16 cv_X2_306 rfl (PB.ob (ob_X2_2 hX hp) hX (Nat.le_of_ble_eq_true rfl)) (Nat.le_of_ble_eq_true rfl) rfl (vm_X1_has (ob_X2_2 hX hp)) rfl (rOk.of rfl) ?_
  refine v_iload_n F dX2_area_19 rfl rfl ?_
  obtain ⟨d6, hc7, h⟩ := bd_some h
  refine v_callV0 (c := 2) F dX2_area_20 cv_X2_215 rfl (PB.ob hp hX (Nat.le_of_ble_eq_true rfl)) (Nat.le_of_ble_eq_true rfl) rfl (vm_X2_note hp hc7) rfl (rOk.of rfl) ?_
  refine v_iload_n F dX2_area_23 rfl rfl ?_
  cases h
  cases (show _ = (d', r) from K)
  refine v_xret ?_
  exact v_iret F dX2_area_24
theorem vm_X2_number_2 {w : Wd} {l : Launch} {d m : Dt} {a1 a2 : Int} {d' : Dt} {r : Option Int} (hp : PB m 10 2) (h : fX2_number_2 d a1 a2 = some (d', r)) : VMX w l WF yX2_number_2 cX2_number_2 5 (some .int) 8 169 d m [mA 10, mI a1, mI a2] (r.map fun v => some (mI v)) d' m := by
  obtain ⟨x, h, K⟩ : ∃ x, fX2_number_2 d a1 a2 = some x ∧ x = (d', r) := ⟨_, h, rfl⟩
  refine VMX.of (L := [mA 10, mI a1, mI a2, mU, mU]) (by decide +kernel) rfl (Nat.le_of_ble_eq_true rfl) fun G F hT => v_fact fun _ hX _ _ => ?_
  unfold fX2_number_2 at h
  refine v_aload_n F dX2_number_2_0 rfl rfl ?_
  refine gf_X2_150 F dX2_number_2_1 hp ?_
  obtain ⟨x1, ex1, h⟩ := lv_some h
  refine v_nI ex1 ?_
  refine v_istore_n F dX2_number_2_4 rfl (Nat.le_of_ble_eq_true rfl) (L' := [mA 10, mI a1, mI a2, mI x1, mU]) rfl ?_
  refine v_aload_n F dX2_number_2_5 rfl rfl ?_
  obtain ⟨d2, x4o, hc3, ho5⟩ := bx_some h
  clear h
  rcases ho5 with ⟨rfl, h⟩ | ⟨x4, rfl, h⟩
  · refine v_callXt (c := 2) F dX2_number_2_6 cl_X2_219 rfl (PB.ob hp hX (Nat.le_of_ble_eq_true rfl)) (Nat.le_of_ble_eq_true rfl) rfl (vm_X2_number hp hc3) rfl (rOk.of rfl) ?_
    cases h
    cases (show _ = (d', r) from K)
    exact v_leave F hT (PB.ob (ob_X2_1 hX hp (v := 11)) hX (Nat.le_of_ble_eq_true rfl))
  refine v_callXv (c := 2) F dX2_number_2_6 cl_X2_219 rfl (PB.ob hp hX (Nat.le_of_ble_eq_true rfl)) (Nat.le_of_ble_eq_true rfl) rfl (vm_X2_number hp hc3) rfl (rOk.of rfl) ?_
  refine v_istore F dX2_number_2_9 (Nat.le_of_ble_eq_true rfl) (L' := [mA 10, mI a1, mI a2, mI x1, mI x4]) rfl ?_
  refine v_aload_n F dX2_number_2_11 rfl rfl ?_
  refine v_iload F dX2_number_2_12 rfl ?_
  refine v_iload_n F dX2_number_2_14 rfl rfl ?_
  refine v_iload_n F dX2_number_2_15 rfl rfl ?_
  refine v_callSv F dX2_number_2_16 cs_X2_163 rfl (vm_X0_within) rfl (rOk.of rfl) ?_
  refine v_iload_n F dX2_number_2_19 rfl rfl ?_
  obtain ⟨d6, hc7, h⟩ := bd_some h
  refine v_callV0 (c := 2) F dX2_number_2_20 cv_X2_215 rfl (PB.ob hp hX (Nat.le_of_ble_eq_true rfl)) (Nat.le_of_ble_eq_true rfl) rfl (vm_X2_note hp hc7) rfl (rOk.of rfl) ?_
  refine v_iload F dX2_number_2_23 rfl ?_
  cases h
  cases (show _ = (d', r) from K)
  refine v_xret ?_
  exact v_iret F dX2_number_2_25
theorem vm_X2_isSign {w : Wd} {l : Launch} {d m : Dt} {a1 : Int} (hp : PB m 10 2) : VM w l WF yX2_isSign cX2_isSign 2 (some .boolean) 0 0 0 0 d m [mA 10, mI a1] (some (mI (fX2_isSign d a1))) d m := by
  obtain ⟨r, hr⟩ : ∃ r, fX2_isSign d a1 = r := ⟨_, rfl⟩
  rw [hr]
  obtain ⟨x, h, K⟩ : ∃ x, fX2_isSign d a1 = x ∧ x = r := ⟨_, hr, rfl⟩
  refine VM.of (L := [mA 10, mI a1]) (by decide +kernel) rfl (Nat.le_of_ble_eq_true rfl) fun G F _ => v_fact fun _ hX _ _ => ?_
  unfold fX2_isSign at h
  refine v_aload_n F dX2_isSign_0 rfl rfl ?_
  refine gf_X2_193 F dX2_isSign_1 hp ?_
  refine v_iconst F dX2_isSign_4 ⟨by decide, by decide⟩ ?_
  refine v_icmp_ne F dX2_isSign_5 rfl (fun hq1 => ?_) (fun hq1 => ?_)
  · rw [if_neg hq1] at h
    refine v_iconst F dX2_isSign_20 ⟨by decide, by decide⟩ ?_
    subst h
    cases (show _ = r from K)
    exact v_zret F (Or.inl rfl) dX2_isSign_21
  · rw [if_pos hq1] at h
    refine v_aload_n F dX2_isSign_8 rfl rfl ?_
    refine gf_X2_182 F dX2_isSign_9 hp ?_
    refine v_iload_n F dX2_isSign_12 rfl rfl ?_
    refine v_icmp_ne F dX2_isSign_13 rfl (fun hq2 => ?_) (fun hq2 => ?_)
    · rw [if_neg hq2] at h
      refine v_iconst F dX2_isSign_20 ⟨by decide, by decide⟩ ?_
      subst h
      cases (show _ = r from K)
      exact v_zret F (Or.inl rfl) dX2_isSign_21
    · rw [if_pos hq2] at h
      refine v_iconst F dX2_isSign_16 ⟨by decide, by decide⟩ ?_
      refine v_goto F dX2_isSign_17 rfl ?_
      subst h
      cases (show _ = r from K)
      exact v_zret F (Or.inr rfl) dX2_isSign_21
theorem fX2_isSign_z {d : Dt} {a1 : Int} : fX2_isSign d a1 = 0 ∨ fX2_isSign d a1 = 1 := by
  unfold fX2_isSign
  repeat' (first | exact Or.inl rfl | exact Or.inr rfl | split | assumption)
theorem vm_X2_sign {w : Wd} {l : Launch} {d m : Dt} {a1 : Int} {d' : Dt} {r : Option Int} (hp : PB m 10 2) (h : fX2_sign d a1 = some (d', r)) : VMX w l WF yX2_sign cX2_sign 2 none 7 148 d m [mA 10, mI a1] (r.map fun _ => none) d' m := by
  obtain ⟨x, h, K⟩ : ∃ x, fX2_sign d a1 = some x ∧ x = (d', r) := ⟨_, h, rfl⟩
  refine VMX.of (L := [mA 10, mI a1]) (by decide +kernel) rfl (Nat.le_of_ble_eq_true rfl) fun G F hT => v_fact fun _ hX _ _ => ?_
  unfold fX2_sign at h
  refine v_aload_n F dX2_sign_0 rfl rfl ?_
  refine v_iload_n F dX2_sign_1 rfl rfl ?_
  refine v_callVv (c := 2) F dX2_sign_2 cv_X2_212 rfl (PB.ob hp hX (Nat.le_of_ble_eq_true rfl)) (Nat.le_of_ble_eq_true rfl) rfl (vm_X2_isSign hp) rfl (rOk.of rfl) ?_
  refine v_if_ne F dX2_sign_5 rfl (fun hq1 => ?_) (fun hq1 => ?_)
  · rw [if_neg hq1] at h
    refine v_aload_n F dX2_sign_13 rfl rfl ?_
    obtain ⟨d2, hc3, h⟩ := bd_some h
    refine v_callV0 (c := 2) F dX2_sign_14 cv_X2_209 rfl (PB.ob hp hX (Nat.le_of_ble_eq_true rfl)) (Nat.le_of_ble_eq_true rfl) rfl (vm_X2_take hp hc3) rfl (rOk.of rfl) ?_
    cases h
    cases (show _ = (d', r) from K)
    refine v_xret ?_
    exact v_vret F dX2_sign_17
  · rw [if_pos hq1] at h
    refine v_aload_n F dX2_sign_8 rfl rfl ?_
    obtain ⟨d4, x6, hc5, h⟩ := b2_some h
    obtain rfl := bad11 hc5
    refine v_callVv (c := 2) F dX2_sign_9 cv_X2_205 rfl (PB.ob hp hX (Nat.le_of_ble_eq_true rfl)) (Nat.le_of_ble_eq_true rfl) rfl (vm_X2_bad hp hc5) rfl (rOk.of rfl) ?_
    refine v_athrow F dX2_sign_12 ?_
    cases h
    cases (show _ = (d', r) from K)
    exact v_leave F hT (PB.ob (ob_X2_1 hX hp (v := 11)) hX (Nat.le_of_ble_eq_true rfl))
theorem fX2_lists_127_ok {w : Wd} {l : Launch} {G : Cx} {d m dd : Dt} {a1 s1 : Int} {d' : Dt} {r : Option Int} {x : (Dt × Option Int)} (F : Fx w G cX2_lists RX2 3 none { frames := 8, cells := 0, slots := 0, locals := 171 }) (hX : WF dd m) (hT : NoT G) (hp : PB m 10 2) (hp1 : PB m a1 6) (h : fX2_lists_127 d a1 s1 = some x) (K : (fun q => q = (d', r)) x) : V w l WF G (QX w G WF (r.map fun _ => none) d' m) d m 0 0 127 [mA 10, mA a1, mU] [mI s1, mA 10] := by
  unfold fX2_lists_127 at h
  refine v_aload_n F dX2_lists_127 rfl rfl ?_
  refine gf_X2_150 F dX2_lists_128 hp ?_
  obtain ⟨d10, hc11, h⟩ := bd_some h
  refine v_callV0 (c := 2) F dX2_lists_131 cv_X2_215 rfl (PB.ob hp hX (Nat.le_of_ble_eq_true rfl)) (Nat.le_of_ble_eq_true rfl) rfl (vm_X2_note hp hc11) rfl (rOk.of rfl) ?_
  refine v_aload_n F dX2_lists_134 rfl rfl ?_
  refine v_iconst F dX2_lists_135 ⟨by decide, by decide⟩ ?_
  obtain ⟨d12, ed12, h⟩ := sd_some h
  refine pf_X2_387 F dX2_lists_136 hp (Or.inr rfl) ?_
  refine v_nD ed12 ?_
  refine v_aload_n F dX2_lists_139 rfl rfl ?_
  refine v_iconst F dX2_lists_140 ⟨by decide, by decide⟩ ?_
  obtain ⟨d13, ed13, h⟩ := sd_some h
  refine pf_X2_380 F dX2_lists_141 hp1 (Or.inr rfl) ?_
  refine v_nD ed13 ?_
  refine v_aload_n F dX2_lists_144 rfl rfl ?_
  obtain ⟨d14, hc15, h⟩ := bd_some h
  refine v_callV0 (c := 2) F dX2_lists_145 cv_X2_209 rfl (PB.ob hp hX (Nat.le_of_ble_eq_true rfl)) (Nat.le_of_ble_eq_true rfl) rfl (vm_X2_take hp hc15) rfl (rOk.of rfl) ?_
  cases h
  cases (show _ = (d', r) from K)
  refine v_xret ?_
  exact v_vret F dX2_lists_148
theorem fX2_lists_105_ok {w : Wd} {l : Launch} {G : Cx} {d m dd : Dt} {a1 : Int} {d' : Dt} {r : Option Int} {x : (Dt × Option Int)} (F : Fx w G cX2_lists RX2 3 none { frames := 8, cells := 0, slots := 0, locals := 171 }) (hX : WF dd m) (hT : NoT G) (hp : PB m 10 2) (hp1 : PB m a1 6) (h : fX2_lists_105 d a1 = some x) (K : (fun q => q = (d', r)) x) : V w l WF G (QX w G WF (r.map fun _ => none) d' m) d m 0 0 105 [mA 10, mA a1, mU] [] := by
  unfold fX2_lists_105 at h
  refine v_aload_n F dX2_lists_105 rfl rfl ?_
  refine v_bipush F dX2_lists_106 rfl ⟨by decide, by decide⟩ ?_
  refine v_callVv (c := 2) F dX2_lists_108 cv_X2_202 rfl (PB.ob hp hX (Nat.le_of_ble_eq_true rfl)) (Nat.le_of_ble_eq_true rfl) rfl (vm_X2_isWordHere hp) rfl (rOk.of rfl) ?_
  refine v_if_eq F dX2_lists_111 rfl (fun hq8 => ?_) (fun hq8 => ?_)
  · rw [if_pos hq8] at h
    cases h
    cases (show _ = (d', r) from K)
    refine v_xret ?_
    exact v_vret F dX2_lists_148
  · rw [if_neg hq8] at h
    refine v_aload_n F dX2_lists_114 rfl rfl ?_
    refine v_aload_n F dX2_lists_115 rfl rfl ?_
    refine gf_X2_387 F dX2_lists_116 hp ?_
    refine v_if_ne F dX2_lists_119 rfl (fun hq9 => ?_) (fun hq9 => ?_)
    · rw [if_neg hq9] at h
      refine v_iconst F dX2_lists_126 ⟨by decide, by decide⟩ ?_
      exact fX2_lists_127_ok F hX hT hp hp1 h K
    · rw [if_pos hq9] at h
      refine v_iconst F dX2_lists_122 ⟨by decide, by decide⟩ ?_
      refine v_goto F dX2_lists_123 rfl ?_
      exact fX2_lists_127_ok F hX hT hp hp1 h K
theorem fX2_lists_87_ok {w : Wd} {l : Launch} {G : Cx} {d m dd : Dt} {a1 : Int} {d' : Dt} {r : Option Int} {x : (Dt × Option Int)} (F : Fx w G cX2_lists RX2 3 none { frames := 8, cells := 0, slots := 0, locals := 171 }) (hX : WF dd m) (hT : NoT G) (hp : PB m 10 2) (hp1 : PB m a1 6) (h : fX2_lists_87 d a1 = some x) (K : (fun q => q = (d', r)) x) : V w l WF G (QX w G WF (r.map fun _ => none) d' m) d m 0 0 87 [mA 10, mA a1, mU] [] := by
  unfold fX2_lists_87 at h
  refine v_aload_n F dX2_lists_87 rfl rfl ?_
  refine v_bipush F dX2_lists_88 rfl ⟨by decide, by decide⟩ ?_
  refine v_callVv (c := 2) F dX2_lists_90 cv_X2_202 rfl (PB.ob hp hX (Nat.le_of_ble_eq_true rfl)) (Nat.le_of_ble_eq_true rfl) rfl (vm_X2_isWordHere hp) rfl (rOk.of rfl) ?_
  refine v_if_eq F dX2_lists_93 rfl (fun hq7 => ?_) (fun hq7 => ?_)
  · rw [if_pos hq7] at h
    exact fX2_lists_105_ok F hX hT hp hp1 h K
  · rw [if_neg hq7] at h
    refine v_aload_n F dX2_lists_96 rfl rfl ?_
    refine v_iconst F dX2_lists_97 ⟨by decide, by decide⟩ ?_
    obtain ⟨d16, ed16, h⟩ := sd_some h
    refine pf_X2_377 F dX2_lists_98 hp1 (Or.inr rfl) ?_
    refine v_nD ed16 ?_
    refine v_aload_n F dX2_lists_101 rfl rfl ?_
    obtain ⟨d17, hc18, h⟩ := bd_some h
    refine v_callV0 (c := 2) F dX2_lists_102 cv_X2_209 rfl (PB.ob hp hX (Nat.le_of_ble_eq_true rfl)) (Nat.le_of_ble_eq_true rfl) rfl (vm_X2_take hp hc18) rfl (rOk.of rfl) ?_
    exact fX2_lists_105_ok F hX hT hp hp1 h K
theorem fX2_lists_83_ok {w : Wd} {l : Launch} {G : Cx} {d m dd : Dt} {a1 v2 s1 : Int} {d' : Dt} {r : Option Int} {x : (Dt × Option Int)} (F : Fx w G cX2_lists RX2 3 none { frames := 8, cells := 0, slots := 0, locals := 171 }) (hX : WF dd m) (hT : NoT G) (hp : PB m 10 2) (hp1 : PB m a1 6) (h : fX2_lists_83 d a1 v2 s1 = some x) (K : (fun q => q = (d', r)) x) : V w l WF G (QX w G WF (r.map fun _ => none) d' m) d m 0 0 83 [mA 10, mA a1, mI v2] [mI s1, mA 10] := by
  unfold fX2_lists_83 at h
  refine v_iload_n F dX2_lists_83 rfl rfl ?_
  obtain ⟨d37, hc38, h⟩ := bd_some h
  refine v_callV0 (c := 2) F dX2_lists_84 cv_X2_215 rfl (PB.ob hp hX (Nat.le_of_ble_eq_true rfl)) (Nat.le_of_ble_eq_true rfl) rfl (vm_X2_note hp hc38) rfl (rOk.of rfl) ?_
  refine v_fgt (L' := [mA 10, mA a1, mU]) ⟨Or.inl rfl, Or.inl rfl, Or.inr rfl, trivial⟩ ?_
  exact fX2_lists_87_ok F hX hT hp hp1 h K
theorem vm_X2_lists {w : Wd} {l : Launch} {d m : Dt} {a1 : Int} {d' : Dt} {r : Option Int} (hp : PB m 10 2) (hp1 : PB m a1 6) (h : fX2_lists d a1 = some (d', r)) : VMX w l WF yX2_lists cX2_lists 3 none 8 171 d m [mA 10, mA a1] (r.map fun _ => none) d' m := by
  obtain ⟨x, h, K⟩ : ∃ x, fX2_lists d a1 = some x ∧ x = (d', r) := ⟨_, h, rfl⟩
  refine VMX.of (L := [mA 10, mA a1, mU]) (by decide +kernel) rfl (Nat.le_of_ble_eq_true rfl) fun G F hT => v_fact fun _ hX _ _ => ?_
  unfold fX2_lists at h
  refine v_aload_n F dX2_lists_0 rfl rfl ?_
  refine v_aload_n F dX2_lists_1 rfl rfl ?_
  refine v_bipush F dX2_lists_2 rfl ⟨by decide, by decide⟩ ?_
  refine v_bipush F dX2_lists_4 rfl ⟨by decide, by decide⟩ ?_
  obtain ⟨d1, x3o, hc2, ho4⟩ := bx_some h
  clear h
  rcases ho4 with ⟨rfl, h⟩ | ⟨x3, rfl, h⟩
  · refine v_callXt (c := 2) F dX2_lists_6 cl_X2_222 rfl (PB.ob hp hX (Nat.le_of_ble_eq_true rfl)) (Nat.le_of_ble_eq_true rfl) rfl (vm_X2_oneOf hp hc2) rfl (rOk.of rfl) ?_
    cases h
    cases (show _ = (d', r) from K)
    exact v_leave F hT (PB.ob (ob_X2_1 hX hp (v := 11)) hX (Nat.le_of_ble_eq_true rfl))
  refine v_callXv (c := 2) F dX2_lists_6 cl_X2_222 rfl (PB.ob hp hX (Nat.le_of_ble_eq_true rfl)) (Nat.le_of_ble_eq_true rfl) rfl (vm_X2_oneOf hp hc2) rfl (rOk.of rfl) ?_
  obtain ⟨d5, ed5, h⟩ := sd_some h
  refine pf_X2_368 F dX2_lists_9 hp1 ?_
  refine v_nD ed5 ?_
  refine v_aload_n F dX2_lists_12 rfl rfl ?_
  refine v_bipush F dX2_lists_13 rfl ⟨by decide, by decide⟩ ?_
  refine v_callVv (c := 2) F dX2_lists_15 cv_X2_202 rfl (PB.ob hp hX (Nat.le_of_ble_eq_true rfl)) (Nat.le_of_ble_eq_true rfl) rfl (vm_X2_isWordHere hp) rfl (rOk.of rfl) ?_
  refine v_if_eq F dX2_lists_18 rfl (fun hq6 => ?_) (fun hq6 => ?_)
  · rw [if_pos hq6] at h
    exact fX2_lists_87_ok F hX hT hp hp1 h K
  · rw [if_neg hq6] at h
    refine v_aload_n F dX2_lists_21 rfl rfl ?_
    obtain ⟨d19, hc20, h⟩ := bd_some h
    refine v_callV0 (c := 2) F dX2_lists_22 cv_X2_209 rfl (PB.ob hp hX (Nat.le_of_ble_eq_true rfl)) (Nat.le_of_ble_eq_true rfl) rfl (vm_X2_take hp hc20) rfl (rOk.of rfl) ?_
    refine v_aload_n F dX2_lists_25 rfl rfl ?_
    refine gf_X2_150 F dX2_lists_26 hp ?_
    obtain ⟨x21, ex21, h⟩ := lv_some h
    refine v_nI ex21 ?_
    refine v_istore_n F dX2_lists_29 rfl (Nat.le_of_ble_eq_true rfl) (L' := [mA 10, mA a1, mI x21]) rfl ?_
    refine v_aload_n F dX2_lists_30 rfl rfl ?_
    refine v_aload_n F dX2_lists_31 rfl rfl ?_
    obtain ⟨d22, x24o, hc23, ho25⟩ := bx_some h
    clear h
    rcases ho25 with ⟨rfl, h⟩ | ⟨x24, rfl, h⟩
    · refine v_callXt (c := 2) F dX2_lists_32 cl_X2_219 rfl (PB.ob hp hX (Nat.le_of_ble_eq_true rfl)) (Nat.le_of_ble_eq_true rfl) rfl (vm_X2_number hp hc23) rfl (rOk.of rfl) ?_
      cases h
      cases (show _ = (d', r) from K)
      exact v_leave F hT (PB.ob (ob_X2_1 hX hp (v := 11)) hX (Nat.le_of_ble_eq_true rfl))
    refine v_callXv (c := 2) F dX2_lists_32 cl_X2_219 rfl (PB.ob hp hX (Nat.le_of_ble_eq_true rfl)) (Nat.le_of_ble_eq_true rfl) rfl (vm_X2_number hp hc23) rfl (rOk.of rfl) ?_
    obtain ⟨d26, ed26, h⟩ := sd_some h
    refine pf_X2_371 F dX2_lists_35 hp1 ?_
    refine v_nD ed26 ?_
    refine v_aload_n F dX2_lists_38 rfl rfl ?_
    refine v_bipush F dX2_lists_39 rfl ⟨by decide, by decide⟩ ?_
    obtain ⟨d27, x29o, hc28, ho30⟩ := bx_some h
    clear h
    rcases ho30 with ⟨rfl, h⟩ | ⟨x29, rfl, h⟩
    · refine v_callXt (c := 2) F dX2_lists_41 cl_X2_244 rfl (PB.ob hp hX (Nat.le_of_ble_eq_true rfl)) (Nat.le_of_ble_eq_true rfl) rfl (vm_X2_sign hp hc28) rfl (rOk.of rfl) ?_
      cases h
      cases (show _ = (d', r) from K)
      exact v_leave F hT (PB.ob (ob_X2_1 hX hp (v := 11)) hX (Nat.le_of_ble_eq_true rfl))
    refine v_callX0 (c := 2) F dX2_lists_41 cl_X2_244 rfl (PB.ob hp hX (Nat.le_of_ble_eq_true rfl)) (Nat.le_of_ble_eq_true rfl) rfl (vm_X2_sign hp hc28) rfl (rOk.of rfl) ?_
    refine v_aload_n F dX2_lists_44 rfl rfl ?_
    refine v_aload_n F dX2_lists_45 rfl rfl ?_
    obtain ⟨d31, x33o, hc32, ho34⟩ := bx_some h
    clear h
    rcases ho34 with ⟨rfl, h⟩ | ⟨x33, rfl, h⟩
    · refine v_callXt (c := 2) F dX2_lists_46 cl_X2_219 rfl (PB.ob hp hX (Nat.le_of_ble_eq_true rfl)) (Nat.le_of_ble_eq_true rfl) rfl (vm_X2_number hp hc32) rfl (rOk.of rfl) ?_
      cases h
      cases (show _ = (d', r) from K)
      exact v_leave F hT (PB.ob (ob_X2_1 hX hp (v := 11)) hX (Nat.le_of_ble_eq_true rfl))
    refine v_callXv (c := 2) F dX2_lists_46 cl_X2_219 rfl (PB.ob hp hX (Nat.le_of_ble_eq_true rfl)) (Nat.le_of_ble_eq_true rfl) rfl (vm_X2_number hp hc32) rfl (rOk.of rfl) ?_
    obtain ⟨d35, ed35, h⟩ := sd_some h
    refine pf_X2_374 F dX2_lists_49 hp1 ?_
    refine v_nD ed35 ?_
    refine v_aload_n F dX2_lists_52 rfl rfl ?_
    refine v_aload_n F dX2_lists_53 rfl rfl ?_
    refine gf_X2_374 F dX2_lists_54 hp1 ?_
    refine v_iconst F dX2_lists_57 ⟨by decide, by decide⟩ ?_
    refine v_sipush F dX2_lists_58 rfl ⟨by decide, by decide⟩ ?_
    refine v_callSv F dX2_lists_61 cs_X2_163 rfl (vm_X0_within) rfl (rOk.of rfl) ?_
    refine v_if_eq F dX2_lists_64 rfl (fun hq36 => ?_) (fun hq36 => ?_)
    · rw [if_pos hq36] at h
      refine v_iconst F dX2_lists_82 ⟨by decide, by decide⟩ ?_
      exact fX2_lists_83_ok F hX hT hp hp1 h K
    · rw [if_neg hq36] at h
      refine v_aload_n F dX2_lists_67 rfl rfl ?_
      refine gf_X2_371 F dX2_lists_68 hp1 ?_
      refine v_aload_n F dX2_lists_71 rfl rfl ?_
      refine gf_X2_374 F dX2_lists_72 hp1 ?_
      refine v_icmp_ge F dX2_lists_75 rfl (fun hq39 => ?_) (fun hq39 => ?_)
      · rw [if_pos hq39] at h
        refine v_iconst F dX2_lists_82 ⟨by decide, by decide⟩ ?_
        exact fX2_lists_83_ok F hX hT hp hp1 h K
      · rw [if_neg hq39] at h
        refine v_iconst F dX2_lists_78 ⟨by decide, by decide⟩ ?_
        refine v_goto F dX2_lists_79 rfl ?_
        exact fX2_lists_83_ok F hX hT hp hp1 h K
theorem fX2_contest_147_ok {w : Wd} {l : Launch} {G : Cx} {d m dd : Dt} {a1 v2 : Int} {d' : Dt} {r : Option Int} {x : (Dt × Option Int)} (F : Fx w G cX2_contest RX2 3 none { frames := 9, cells := 0, slots := 0, locals := 193 }) (hX : WF dd m) (hT : NoT G) (hp : PB m 10 2) (hv2 : PB m v2 6) (h : fX2_contest_147 d a1 v2 = some x) (K : (fun q => q = (d', r)) x) : V w l WF G (QX w G WF (r.map fun _ => none) d' m) d m 0 0 147 [mA 10, mU, mA v2] [] := by
  unfold fX2_contest_147 at h
  refine v_aload_n F dX2_contest_147 rfl rfl ?_
  refine v_aload_n F dX2_contest_148 rfl rfl ?_
  refine v_bipush F dX2_contest_149 rfl ⟨by decide, by decide⟩ ?_
  refine v_bipush F dX2_contest_151 rfl ⟨by decide, by decide⟩ ?_
  obtain ⟨d53, x55o, hc54, ho56⟩ := bx_some h
  clear h
  rcases ho56 with ⟨rfl, h⟩ | ⟨x55, rfl, h⟩
  · refine v_callXt (c := 2) F dX2_contest_153 cl_X2_222 rfl (PB.ob hp hX (Nat.le_of_ble_eq_true rfl)) (Nat.le_of_ble_eq_true rfl) rfl (vm_X2_oneOf hp hc54) rfl (rOk.of rfl) ?_
    cases h
    cases (show _ = (d', r) from K)
    exact v_leave F hT (PB.ob (ob_X2_1 hX hp (v := 11)) hX (Nat.le_of_ble_eq_true rfl))
  refine v_callXv (c := 2) F dX2_contest_153 cl_X2_222 rfl (PB.ob hp hX (Nat.le_of_ble_eq_true rfl)) (Nat.le_of_ble_eq_true rfl) rfl (vm_X2_oneOf hp hc54) rfl (rOk.of rfl) ?_
  obtain ⟨d57, ed57, h⟩ := sd_some h
  refine pf_X2_368 F dX2_contest_156 hv2 ?_
  refine v_nD ed57 ?_
  refine v_goto F dX2_contest_159 rfl ?_
  cases h
  cases (show _ = (d', r) from K)
  refine v_xret ?_
  exact v_vret F dX2_contest_176
theorem fX2_contest_18_ok {w : Wd} {l : Launch} {G : Cx} {d m dd : Dt} {a1 s1 : Int} {d' : Dt} {r : Option Int} {x : (Dt × Option Int)} (F : Fx w G cX2_contest RX2 3 none { frames := 9, cells := 0, slots := 0, locals := 193 }) (hX : WF dd m) (hT : NoT G) (hp : PB m 10 2) (h : fX2_contest_18 d a1 s1 = some x) (K : (fun q => q = (d', r)) x) : V w l WF G (QX w G WF (r.map fun _ => none) d' m) d m 0 0 18 [mA 10, mI a1, mU] [mI s1, mA 10] := by
  unfold fX2_contest_18 at h
  refine v_iload_n F dX2_contest_18 rfl rfl ?_
  obtain ⟨d5, hc6, h⟩ := bd_some h
  refine v_callV0 (c := 2) F dX2_contest_19 cv_X2_215 rfl (PB.ob hp hX (Nat.le_of_ble_eq_true rfl)) (Nat.le_of_ble_eq_true rfl) rfl (vm_X2_note hp hc6) rfl (rOk.of rfl) ?_
  refine v_aload_n F dX2_contest_22 rfl rfl ?_
  obtain ⟨x7, ex7, h⟩ := lv_some h
  obtain ⟨hn9, h⟩ := ck_some h
  refine gf_X2_263 F dX2_contest_23 hp ex7 fun hr8 => ?_
  have x7p := hr8.resolve_left hn9
  refine gf_X2_349 F dX2_contest_26 x7p (v := (x7 + 11)) rfl ?_
  refine v_aload_n F dX2_contest_29 rfl rfl ?_
  obtain ⟨x10, ex10, h⟩ := lv_some h
  obtain ⟨hn12, h⟩ := ck_some h
  refine gf_X2_263 F dX2_contest_30 hp ex10 fun hr11 => ?_
  have x10p := hr11.resolve_left hn12
  refine gf_X2_346 F dX2_contest_33 x10p ?_
  refine v_iconst F dX2_contest_36 ⟨by decide, by decide⟩ ?_
  refine v_callSv F dX2_contest_37 cs_X2_353 rfl (vm_J9_min) rfl (rOk.of rfl) ?_
  obtain ⟨x13, ex13, h⟩ := lv_some h
  refine v_nI ex13 ?_
  obtain ⟨hi14, h⟩ := ck_some h
  refine v_aaldF (c := 4) (k := 13) F dX2_contest_40 x7p (Nat.le_of_ble_eq_true rfl) (Nat.le_of_ble_eq_true rfl) (by decide) (by decide) rfl (ar_X4_13 hX x7p) (Nat.le_of_ble_eq_true rfl) rfl rfl rfl rfl hi14 (v := ((x7 + 13) + x13)) (by show x7 + 13 + 1 * x13 = _; omega) ?_
  obtain ⟨x15, ex15, h⟩ := lv_some h
  refine v_nA ex15 ?_
  have x15p : PB m x15 6 := by rw [ex15]; exact (ae_X4_13 (i := x13) hX x7p hi14 (v := ((x7 + 13) + x13)) (by omega))
  refine v_astore_n F dX2_contest_41 rfl (Nat.le_of_ble_eq_true rfl) (L' := [mA 10, mI a1, mA x15]) rfl ?_
  refine v_aload_n F dX2_contest_42 rfl rfl ?_
  obtain ⟨x16, ex16, h⟩ := lv_some h
  obtain ⟨hn18, h⟩ := ck_some h
  refine gf_X2_263 F dX2_contest_43 hp ex16 fun hr17 => ?_
  have x16p := hr17.resolve_left hn18
  refine v_dup_A F dX2_contest_46 ?_
  refine gf_X2_346 F dX2_contest_47 x16p ?_
  refine v_iconst F dX2_contest_50 ⟨by decide, by decide⟩ ?_
  refine v_iadd F dX2_contest_51 ?_
  obtain ⟨d19, ed19, h⟩ := sd_some h
  refine pf_X2_346 F dX2_contest_52 x16p ?_
  refine v_nD ed19 ?_
  refine v_aload_n F dX2_contest_55 rfl rfl ?_
  refine v_bipush F dX2_contest_56 rfl ⟨by decide, by decide⟩ ?_
  obtain ⟨d20, x22o, hc21, ho23⟩ := bx_some h
  clear h
  rcases ho23 with ⟨rfl, h⟩ | ⟨x22, rfl, h⟩
  · refine v_callXt (c := 2) F dX2_contest_58 cl_X2_356 rfl (PB.ob hp hX (Nat.le_of_ble_eq_true rfl)) (Nat.le_of_ble_eq_true rfl) rfl (vm_X2_word hp hc21) rfl (rOk.of rfl) ?_
    cases h
    cases (show _ = (d', r) from K)
    exact v_leave F hT (PB.ob (ob_X2_1 hX hp (v := 11)) hX (Nat.le_of_ble_eq_true rfl))
  refine v_callX0 (c := 2) F dX2_contest_58 cl_X2_356 rfl (PB.ob hp hX (Nat.le_of_ble_eq_true rfl)) (Nat.le_of_ble_eq_true rfl) rfl (vm_X2_word hp hc21) rfl (rOk.of rfl) ?_
  refine v_aload_n F dX2_contest_61 rfl rfl ?_
  refine v_aload_n F dX2_contest_62 rfl rfl ?_
  obtain ⟨d24, x26o, hc25, ho27⟩ := bx_some h
  clear h
  rcases ho27 with ⟨rfl, h⟩ | ⟨x26, rfl, h⟩
  · refine v_callXt (c := 2) F dX2_contest_63 cl_X2_275 rfl (PB.ob hp hX (Nat.le_of_ble_eq_true rfl)) (Nat.le_of_ble_eq_true rfl) rfl (vm_X2_area hp hc25) rfl (rOk.of rfl) ?_
    cases h
    cases (show _ = (d', r) from K)
    exact v_leave F hT (PB.ob (ob_X2_1 hX hp (v := 11)) hX (Nat.le_of_ble_eq_true rfl))
  refine v_callXv (c := 2) F dX2_contest_63 cl_X2_275 rfl (PB.ob hp hX (Nat.le_of_ble_eq_true rfl)) (Nat.le_of_ble_eq_true rfl) rfl (vm_X2_area hp hc25) rfl (rOk.of rfl) ?_
  obtain ⟨d28, ed28, h⟩ := sd_some h
  refine pf_X2_358 F dX2_contest_66 x15p ?_
  refine v_nD ed28 ?_
  refine v_aload_n F dX2_contest_69 rfl rfl ?_
  refine v_bipush F dX2_contest_70 rfl ⟨by decide, by decide⟩ ?_
  obtain ⟨d29, x31o, hc30, ho32⟩ := bx_some h
  clear h
  rcases ho32 with ⟨rfl, h⟩ | ⟨x31, rfl, h⟩
  · refine v_callXt (c := 2) F dX2_contest_72 cl_X2_356 rfl (PB.ob hp hX (Nat.le_of_ble_eq_true rfl)) (Nat.le_of_ble_eq_true rfl) rfl (vm_X2_word hp hc30) rfl (rOk.of rfl) ?_
    cases h
    cases (show _ = (d', r) from K)
    exact v_leave F hT (PB.ob (ob_X2_1 hX hp (v := 11)) hX (Nat.le_of_ble_eq_true rfl))
  refine v_callX0 (c := 2) F dX2_contest_72 cl_X2_356 rfl (PB.ob hp hX (Nat.le_of_ble_eq_true rfl)) (Nat.le_of_ble_eq_true rfl) rfl (vm_X2_word hp hc30) rfl (rOk.of rfl) ?_
  refine v_aload_n F dX2_contest_75 rfl rfl ?_
  refine v_aload_n F dX2_contest_76 rfl rfl ?_
  refine v_iconst F dX2_contest_77 ⟨by decide, by decide⟩ ?_
  refine v_bipush F dX2_contest_78 rfl ⟨by decide, by decide⟩ ?_
  obtain ⟨d33, x35o, hc34, ho36⟩ := bx_some h
  clear h
  rcases ho36 with ⟨rfl, h⟩ | ⟨x35, rfl, h⟩
  · refine v_callXt (c := 2) F dX2_contest_80 cl_X2_278 rfl (PB.ob hp hX (Nat.le_of_ble_eq_true rfl)) (Nat.le_of_ble_eq_true rfl) rfl (vm_X2_number_2 hp hc34) rfl (rOk.of rfl) ?_
    cases h
    cases (show _ = (d', r) from K)
    exact v_leave F hT (PB.ob (ob_X2_1 hX hp (v := 11)) hX (Nat.le_of_ble_eq_true rfl))
  refine v_callXv (c := 2) F dX2_contest_80 cl_X2_278 rfl (PB.ob hp hX (Nat.le_of_ble_eq_true rfl)) (Nat.le_of_ble_eq_true rfl) rfl (vm_X2_number_2 hp hc34) rfl (rOk.of rfl) ?_
  obtain ⟨d37, ed37, h⟩ := sd_some h
  refine pf_X2_362 F dX2_contest_83 x15p ?_
  refine v_nD ed37 ?_
  refine v_aload_n F dX2_contest_86 rfl rfl ?_
  refine v_bipush F dX2_contest_87 rfl ⟨by decide, by decide⟩ ?_
  obtain ⟨d38, x40o, hc39, ho41⟩ := bx_some h
  clear h
  rcases ho41 with ⟨rfl, h⟩ | ⟨x40, rfl, h⟩
  · refine v_callXt (c := 2) F dX2_contest_89 cl_X2_356 rfl (PB.ob hp hX (Nat.le_of_ble_eq_true rfl)) (Nat.le_of_ble_eq_true rfl) rfl (vm_X2_word hp hc39) rfl (rOk.of rfl) ?_
    cases h
    cases (show _ = (d', r) from K)
    exact v_leave F hT (PB.ob (ob_X2_1 hX hp (v := 11)) hX (Nat.le_of_ble_eq_true rfl))
  refine v_callX0 (c := 2) F dX2_contest_89 cl_X2_356 rfl (PB.ob hp hX (Nat.le_of_ble_eq_true rfl)) (Nat.le_of_ble_eq_true rfl) rfl (vm_X2_word hp hc39) rfl (rOk.of rfl) ?_
  refine v_aload_n F dX2_contest_92 rfl rfl ?_
  refine v_aload_n F dX2_contest_93 rfl rfl ?_
  refine v_bipush F dX2_contest_94 rfl ⟨by decide, by decide⟩ ?_
  refine v_bipush F dX2_contest_96 rfl ⟨by decide, by decide⟩ ?_
  obtain ⟨d42, x44o, hc43, ho45⟩ := bx_some h
  clear h
  rcases ho45 with ⟨rfl, h⟩ | ⟨x44, rfl, h⟩
  · refine v_callXt (c := 2) F dX2_contest_98 cl_X2_222 rfl (PB.ob hp hX (Nat.le_of_ble_eq_true rfl)) (Nat.le_of_ble_eq_true rfl) rfl (vm_X2_oneOf hp hc43) rfl (rOk.of rfl) ?_
    cases h
    cases (show _ = (d', r) from K)
    exact v_leave F hT (PB.ob (ob_X2_1 hX hp (v := 11)) hX (Nat.le_of_ble_eq_true rfl))
  refine v_callXv (c := 2) F dX2_contest_98 cl_X2_222 rfl (PB.ob hp hX (Nat.le_of_ble_eq_true rfl)) (Nat.le_of_ble_eq_true rfl) rfl (vm_X2_oneOf hp hc43) rfl (rOk.of rfl) ?_
  obtain ⟨d46, ed46, h⟩ := sd_some h
  refine pf_X2_365 F dX2_contest_101 x15p ?_
  refine v_nD ed46 ?_
  refine v_aload_n F dX2_contest_104 rfl rfl ?_
  refine v_iconst F dX2_contest_105 ⟨by decide, by decide⟩ ?_
  obtain ⟨d47, ed47, h⟩ := sd_some h
  refine pf_X2_368 F dX2_contest_106 x15p ?_
  refine v_nD ed47 ?_
  refine v_aload_n F dX2_contest_109 rfl rfl ?_
  refine v_iconst F dX2_contest_110 ⟨by decide, by decide⟩ ?_
  obtain ⟨d48, ed48, h⟩ := sd_some h
  refine pf_X2_371 F dX2_contest_111 x15p ?_
  refine v_nD ed48 ?_
  refine v_aload_n F dX2_contest_114 rfl rfl ?_
  refine v_iconst F dX2_contest_115 ⟨by decide, by decide⟩ ?_
  obtain ⟨d49, ed49, h⟩ := sd_some h
  refine pf_X2_374 F dX2_contest_116 x15p ?_
  refine v_nD ed49 ?_
  refine v_aload_n F dX2_contest_119 rfl rfl ?_
  refine v_iconst F dX2_contest_120 ⟨by decide, by decide⟩ ?_
  obtain ⟨d50, ed50, h⟩ := sd_some h
  refine pf_X2_377 F dX2_contest_121 x15p (Or.inl rfl) ?_
  refine v_nD ed50 ?_
  refine v_aload_n F dX2_contest_124 rfl rfl ?_
  refine v_iconst F dX2_contest_125 ⟨by decide, by decide⟩ ?_
  obtain ⟨d51, ed51, h⟩ := sd_some h
  refine pf_X2_380 F dX2_contest_126 x15p (Or.inl rfl) ?_
  refine v_nD ed51 ?_
  refine v_aload_n F dX2_contest_129 rfl rfl ?_
  refine gf_X2_365 F dX2_contest_130 x15p ?_
  refine v_bipush F dX2_contest_133 rfl ⟨by decide, by decide⟩ ?_
  refine v_icmp_eq F dX2_contest_135 rfl (fun hq52 => ?_) (fun hq52 => ?_)
  · rw [if_pos hq52] at h
    refine v_fgt (L' := [mA 10, mU, mA x15]) ⟨Or.inl rfl, Or.inr rfl, Or.inl rfl, trivial⟩ ?_
    exact fX2_contest_147_ok F hX hT hp x15p h K
  · rw [if_neg hq52] at h
    refine v_aload_n F dX2_contest_138 rfl rfl ?_
    refine gf_X2_365 F dX2_contest_139 x15p ?_
    refine v_bipush F dX2_contest_142 rfl ⟨by decide, by decide⟩ ?_
    refine v_icmp_ne F dX2_contest_144 rfl (fun hq58 => ?_) (fun hq58 => ?_)
    · rw [if_neg hq58] at h
      refine v_aload_n F dX2_contest_162 rfl rfl ?_
      refine gf_X2_365 F dX2_contest_163 x15p ?_
      refine v_bipush F dX2_contest_166 rfl ⟨by decide, by decide⟩ ?_
      refine v_icmp_ne F dX2_contest_168 rfl (fun hq59 => ?_) (fun hq59 => ?_)
      · rw [if_neg hq59] at h
        cases h
        cases (show _ = (d', r) from K)
        refine v_xret ?_
        exact v_vret F dX2_contest_176
      · rw [if_pos hq59] at h
        refine v_aload_n F dX2_contest_171 rfl rfl ?_
        refine v_aload_n F dX2_contest_172 rfl rfl ?_
        obtain ⟨d60, x62o, hc61, ho63⟩ := bx_some h
        clear h
        rcases ho63 with ⟨rfl, h⟩ | ⟨x62, rfl, h⟩
        · refine v_callXt (c := 2) F dX2_contest_173 cl_X2_383 rfl (PB.ob hp hX (Nat.le_of_ble_eq_true rfl)) (Nat.le_of_ble_eq_true rfl) rfl (vm_X2_lists hp x15p hc61) rfl (rOk.of rfl) ?_
          cases h
          cases (show _ = (d', r) from K)
          exact v_leave F hT (PB.ob (ob_X2_1 hX hp (v := 11)) hX (Nat.le_of_ble_eq_true rfl))
        refine v_callX0 (c := 2) F dX2_contest_173 cl_X2_383 rfl (PB.ob hp hX (Nat.le_of_ble_eq_true rfl)) (Nat.le_of_ble_eq_true rfl) rfl (vm_X2_lists hp x15p hc61) rfl (rOk.of rfl) ?_
        cases h
        cases (show _ = (d', r) from K)
        refine v_xret ?_
        exact v_vret F dX2_contest_176
    · rw [if_pos hq58] at h
      refine v_fgt (L' := [mA 10, mU, mA x15]) ⟨Or.inl rfl, Or.inr rfl, Or.inl rfl, trivial⟩ ?_
      exact fX2_contest_147_ok F hX hT hp x15p h K
theorem vm_X2_contest {w : Wd} {l : Launch} {d m : Dt} {a1 : Int} {d' : Dt} {r : Option Int} (hp : PB m 10 2) (h : fX2_contest d a1 = some (d', r)) : VMX w l WF yX2_contest cX2_contest 3 none 9 193 d m [mA 10, mI a1] (r.map fun _ => none) d' m := by
  obtain ⟨x, h, K⟩ : ∃ x, fX2_contest d a1 = some x ∧ x = (d', r) := ⟨_, h, rfl⟩
  refine VMX.of (L := [mA 10, mI a1, mU]) (by decide +kernel) rfl (Nat.le_of_ble_eq_true rfl) fun G F hT => v_fact fun _ hX _ _ => ?_
  unfold fX2_contest at h
  refine v_aload_n F dX2_contest_0 rfl rfl ?_
  refine v_aload_n F dX2_contest_1 rfl rfl ?_
  obtain ⟨x1, ex1, h⟩ := lv_some h
  obtain ⟨hn3, h⟩ := ck_some h
  refine gf_X2_263 F dX2_contest_2 hp ex1 fun hr2 => ?_
  have x1p := hr2.resolve_left hn3
  refine gf_X2_346 F dX2_contest_5 x1p ?_
  refine v_bipush F dX2_contest_8 rfl ⟨by decide, by decide⟩ ?_
  refine v_icmp_ge F dX2_contest_10 rfl (fun hq4 => ?_) (fun hq4 => ?_)
  · rw [if_pos hq4] at h
    refine v_iconst F dX2_contest_17 ⟨by decide, by decide⟩ ?_
    exact fX2_contest_18_ok F hX hT hp h K
  · rw [if_neg hq4] at h
    refine v_iconst F dX2_contest_13 ⟨by decide, by decide⟩ ?_
    refine v_goto F dX2_contest_14 rfl ?_
    exact fX2_contest_18_ok F hX hT hp h K
theorem vm_X12_weekday {w : Wd} {l : Launch} {X : Dt → Dt → Prop} {d m : Dt} {a1 : Int} {r : Int} (h : fX12_weekday a1 = some r) : VM w l X yX12_weekday cX12_weekday 1 (some .int) 1 22 0 0 d m [mI a1] (some (mI r)) d m := by
  obtain ⟨x, h, K⟩ : ∃ x, fX12_weekday a1 = some x ∧ x = r := ⟨_, h, rfl⟩
  refine VM.of (L := [mI a1]) (by decide +kernel) rfl (Nat.le_of_ble_eq_true rfl) fun G F _ => ?_
  unfold fX12_weekday at h
  refine v_iload_n F dX12_weekday_0 rfl rfl ?_
  refine v_iconst F dX12_weekday_1 ⟨by decide, by decide⟩ ?_
  refine v_iadd F dX12_weekday_2 ?_
  refine v_bipush F dX12_weekday_3 rfl ⟨by decide, by decide⟩ ?_
  obtain ⟨x1, hc2, h⟩ := b1_some h
  refine v_callSv F dX12_weekday_5 cs_X12_24 rfl (vm_J9_floorMod hc2) rfl (rOk.of rfl) ?_
  cases h
  cases (show _ = r from K)
  exact v_iret F dX12_weekday_8
theorem vm_X12_last {w : Wd} {l : Launch} {d m : Dt} {a1 a2 a3 : Int} {r : Int} (h : fX12_last a1 a2 a3 = some r) : VM w l WF yX12_last cX12_last 4 (some .int) 3 65 0 0 d m [mI a1, mI a2, mI a3] (some (mI r)) d m := by
  obtain ⟨x, h, K⟩ : ∃ x, fX12_last a1 a2 a3 = some x ∧ x = r := ⟨_, h, rfl⟩
  refine VM.of (L := [mI a1, mI a2, mI a3, mU]) (by decide +kernel) rfl (Nat.le_of_ble_eq_true rfl) fun G F _ => v_fact fun _ hX _ _ => ?_
  unfold fX12_last at h
  refine v_iload_n F dX12_last_0 rfl rfl ?_
  refine v_iload_n F dX12_last_1 rfl rfl ?_
  refine v_iconst F dX12_last_2 ⟨by decide, by decide⟩ ?_
  refine v_sipush F dX12_last_3 rfl ⟨by decide, by decide⟩ ?_
  refine v_callSv F dX12_last_6 cs_X12_29 rfl (vm_X12_is) rfl (rOk.of rfl) ?_
  refine v_if_ne F dX12_last_9 rfl (fun hq1 => ?_) (fun hq1 => ?_)
  · rw [if_neg hq1] at h
    refine v_iload_n F dX12_last_14 rfl rfl ?_
    refine v_iload_n F dX12_last_15 rfl rfl ?_
    refine v_iload_n F dX12_last_16 rfl rfl ?_
    refine v_iload_n F dX12_last_17 rfl rfl ?_
    refine v_callSv F dX12_last_18 cs_X12_19 rfl (vm_X12_lengthOf) rfl (rOk.of rfl) ?_
    obtain ⟨x2, hc3, h⟩ := b1_some h
    refine v_callSv F dX12_last_21 cs_X12_33 rfl (vm_X12_of hc3) rfl (rOk.of rfl) ?_
    refine v_istore_n F dX12_last_24 rfl (Nat.le_of_ble_eq_true rfl) (L' := [mI a1, mI a2, mI a3, mI x2]) rfl ?_
    refine v_iload_n F dX12_last_25 rfl rfl ?_
    refine v_iload_n F dX12_last_26 rfl rfl ?_
    obtain ⟨x4, hc5, h⟩ := b1_some h
    refine v_callSv F dX12_last_27 cs_X12_37 rfl (vm_X12_weekday hc5) rfl (rOk.of rfl) ?_
    refine v_iload_n F dX12_last_30 rfl rfl ?_
    refine v_isub F dX12_last_31 ?_
    refine v_bipush F dX12_last_32 rfl ⟨by decide, by decide⟩ ?_
    obtain ⟨x6, hc7, h⟩ := b1_some h
    refine v_callSv F dX12_last_34 cs_X12_24 rfl (vm_J9_floorMod hc7) rfl (rOk.of rfl) ?_
    refine v_isub F dX12_last_37 ?_
    cases h
    cases (show _ = r from K)
    exact v_iret F dX12_last_38
  · rw [if_pos hq1] at h
    refine v_iconst F dX12_last_12 ⟨by decide, by decide⟩ ?_
    cases h
    cases (show _ = r from K)
    exact v_iret F dX12_last_13
theorem vm_X12_easter {w : Wd} {l : Launch} {d m : Dt} {a1 : Int} {r : Int} (h : fX12_easter a1 = some r) : VM w l WF yX12_easter cX12_easter 8 (some .int) 3 65 0 0 d m [mI a1] (some (mI r)) d m := by
  obtain ⟨x, h, K⟩ : ∃ x, fX12_easter a1 = some x ∧ x = r := ⟨_, h, rfl⟩
  refine VM.of (L := [mI a1, mU, mU, mU, mU, mU, mU, mU]) (by decide +kernel) rfl (Nat.le_of_ble_eq_true rfl) fun G F _ => v_fact fun _ hX _ _ => ?_
  unfold fX12_easter at h
  refine v_iload_n F dX12_easter_0 rfl rfl ?_
  refine v_sipush F dX12_easter_1 rfl ⟨by decide, by decide⟩ ?_
  refine v_sipush F dX12_easter_4 rfl ⟨by decide, by decide⟩ ?_
  refine v_callSv F dX12_easter_7 cs_X12_15 rfl (vm_X0_within) rfl (rOk.of rfl) ?_
  refine v_if_ne F dX12_easter_10 rfl (fun hq1 => ?_) (fun hq1 => ?_)
  · rw [if_neg hq1] at h
    refine v_iload_n F dX12_easter_15 rfl rfl ?_
    refine v_bipush F dX12_easter_16 rfl ⟨by decide, by decide⟩ ?_
    refine v_irem F dX12_easter_18 (by decide) ?_
    obtain ⟨x2, ex2, h⟩ := lv_some h
    refine v_nI ex2 ?_
    refine v_istore_n F dX12_easter_19 rfl (Nat.le_of_ble_eq_true rfl) (L' := [mI a1, mI x2, mU, mU, mU, mU, mU, mU]) rfl ?_
    refine v_iload_n F dX12_easter_20 rfl rfl ?_
    refine v_bipush F dX12_easter_21 rfl ⟨by decide, by decide⟩ ?_
    refine v_idiv F dX12_easter_23 (by decide) ?_
    obtain ⟨x3, ex3, h⟩ := lv_some h
    refine v_nI ex3 ?_
    refine v_istore_n F dX12_easter_24 rfl (Nat.le_of_ble_eq_true rfl) (L' := [mI a1, mI x2, mI x3, mU, mU, mU, mU, mU]) rfl ?_
    refine v_iload_n F dX12_easter_25 rfl rfl ?_
    refine v_bipush F dX12_easter_26 rfl ⟨by decide, by decide⟩ ?_
    refine v_irem F dX12_easter_28 (by decide) ?_
    obtain ⟨x4, ex4, h⟩ := lv_some h
    refine v_nI ex4 ?_
    refine v_istore_n F dX12_easter_29 rfl (Nat.le_of_ble_eq_true rfl) (L' := [mI a1, mI x2, mI x3, mI x4, mU, mU, mU, mU]) rfl ?_
    refine v_bipush F dX12_easter_30 rfl ⟨by decide, by decide⟩ ?_
    refine v_iload_n F dX12_easter_32 rfl rfl ?_
    refine v_imul F dX12_easter_33 ?_
    refine v_iload_n F dX12_easter_34 rfl rfl ?_
    refine v_iadd F dX12_easter_35 ?_
    refine v_iload_n F dX12_easter_36 rfl rfl ?_
    refine v_iconst F dX12_easter_37 ⟨by decide, by decide⟩ ?_
    refine v_idiv F dX12_easter_38 (by decide) ?_
    refine v_isub F dX12_easter_39 ?_
    refine v_iload_n F dX12_easter_40 rfl rfl ?_
    refine v_iload_n F dX12_easter_41 rfl rfl ?_
    refine v_bipush F dX12_easter_42 rfl ⟨by decide, by decide⟩ ?_
    refine v_iadd F dX12_easter_44 ?_
    refine v_bipush F dX12_easter_45 rfl ⟨by decide, by decide⟩ ?_
    refine v_idiv F dX12_easter_47 (by decide) ?_
    refine v_isub F dX12_easter_48 ?_
    refine v_iconst F dX12_easter_49 ⟨by decide, by decide⟩ ?_
    refine v_iadd F dX12_easter_50 ?_
    refine v_iconst F dX12_easter_51 ⟨by decide, by decide⟩ ?_
    refine v_idiv F dX12_easter_52 (by decide) ?_
    refine v_isub F dX12_easter_53 ?_
    refine v_bipush F dX12_easter_54 rfl ⟨by decide, by decide⟩ ?_
    refine v_iadd F dX12_easter_56 ?_
    refine v_bipush F dX12_easter_57 rfl ⟨by decide, by decide⟩ ?_
    refine v_irem F dX12_easter_59 (by decide) ?_
    obtain ⟨x5, ex5, h⟩ := lv_some h
    refine v_nI ex5 ?_
    refine v_istore F dX12_easter_60 (Nat.le_of_ble_eq_true rfl) (L' := [mI a1, mI x2, mI x3, mI x4, mI x5, mU, mU, mU]) rfl ?_
    refine v_bipush F dX12_easter_62 rfl ⟨by decide, by decide⟩ ?_
    refine v_iconst F dX12_easter_64 ⟨by decide, by decide⟩ ?_
    refine v_iload_n F dX12_easter_65 rfl rfl ?_
    refine v_iconst F dX12_easter_66 ⟨by decide, by decide⟩ ?_
    refine v_irem F dX12_easter_67 (by decide) ?_
    refine v_imul F dX12_easter_68 ?_
    refine v_iadd F dX12_easter_69 ?_
    refine v_iconst F dX12_easter_70 ⟨by decide, by decide⟩ ?_
    refine v_iload_n F dX12_easter_71 rfl rfl ?_
    refine v_iconst F dX12_easter_72 ⟨by decide, by decide⟩ ?_
    refine v_idiv F dX12_easter_73 (by decide) ?_
    refine v_imul F dX12_easter_74 ?_
    refine v_iadd F dX12_easter_75 ?_
    refine v_iload F dX12_easter_76 rfl ?_
    refine v_isub F dX12_easter_78 ?_
    refine v_iload_n F dX12_easter_79 rfl rfl ?_
    refine v_iconst F dX12_easter_80 ⟨by decide, by decide⟩ ?_
    refine v_irem F dX12_easter_81 (by decide) ?_
    refine v_isub F dX12_easter_82 ?_
    refine v_bipush F dX12_easter_83 rfl ⟨by decide, by decide⟩ ?_
    refine v_irem F dX12_easter_85 (by decide) ?_
    obtain ⟨x6, ex6, h⟩ := lv_some h
    refine v_nI ex6 ?_
    refine v_istore F dX12_easter_86 (Nat.le_of_ble_eq_true rfl) (L' := [mI a1, mI x2, mI x3, mI x4, mI x5, mI x6, mU, mU]) rfl ?_
    refine v_iload_n F dX12_easter_88 rfl rfl ?_
    refine v_bipush F dX12_easter_89 rfl ⟨by decide, by decide⟩ ?_
    refine v_iload F dX12_easter_91 rfl ?_
    refine v_imul F dX12_easter_93 ?_
    refine v_iadd F dX12_easter_94 ?_
    refine v_bipush F dX12_easter_95 rfl ⟨by decide, by decide⟩ ?_
    refine v_iload F dX12_easter_97 rfl ?_
    refine v_imul F dX12_easter_99 ?_
    refine v_iadd F dX12_easter_100 ?_
    refine v_sipush F dX12_easter_101 rfl ⟨by decide, by decide⟩ ?_
    refine v_idiv F dX12_easter_104 (by decide) ?_
    obtain ⟨x7, ex7, h⟩ := lv_some h
    refine v_nI ex7 ?_
    refine v_istore F dX12_easter_105 (Nat.le_of_ble_eq_true rfl) (L' := [mI a1, mI x2, mI x3, mI x4, mI x5, mI x6, mI x7, mU]) rfl ?_
    refine v_iload F dX12_easter_107 rfl ?_
    refine v_iload F dX12_easter_109 rfl ?_
    refine v_iadd F dX12_easter_111 ?_
    refine v_bipush F dX12_easter_112 rfl ⟨by decide, by decide⟩ ?_
    refine v_iload F dX12_easter_114 rfl ?_
    refine v_imul F dX12_easter_116 ?_
    refine v_isub F dX12_easter_117 ?_
    refine v_bipush F dX12_easter_118 rfl ⟨by decide, by decide⟩ ?_
    refine v_iadd F dX12_easter_120 ?_
    obtain ⟨x8, ex8, h⟩ := lv_some h
    refine v_nI ex8 ?_
    refine v_istore F dX12_easter_121 (Nat.le_of_ble_eq_true rfl) (L' := [mI a1, mI x2, mI x3, mI x4, mI x5, mI x6, mI x7, mI x8]) rfl ?_
    refine v_iload_n F dX12_easter_123 rfl rfl ?_
    refine v_iload F dX12_easter_124 rfl ?_
    refine v_bipush F dX12_easter_126 rfl ⟨by decide, by decide⟩ ?_
    refine v_idiv F dX12_easter_128 (by decide) ?_
    refine v_iload F dX12_easter_129 rfl ?_
    refine v_bipush F dX12_easter_131 rfl ⟨by decide, by decide⟩ ?_
    refine v_irem F dX12_easter_133 (by decide) ?_
    refine v_iconst F dX12_easter_134 ⟨by decide, by decide⟩ ?_
    refine v_iadd F dX12_easter_135 ?_
    obtain ⟨x9, hc10, h⟩ := b1_some h
    refine v_callSv F dX12_easter_136 cs_X12_33 rfl (vm_X12_of hc10) rfl (rOk.of rfl) ?_
    cases h
    cases (show _ = r from K)
    exact v_iret F dX12_easter_139
  · rw [if_pos hq1] at h
    refine v_iconst F dX12_easter_13 ⟨by decide, by decide⟩ ?_
    cases h
    cases (show _ = r from K)
    exact v_iret F dX12_easter_14
theorem vm_X12_nth {w : Wd} {l : Launch} {d m : Dt} {a1 a2 a3 a4 : Int} {r : Int} (h : fX12_nth a1 a2 a3 a4 = some r) : VM w l WF yX12_nth cX12_nth 6 (some .int) 3 65 0 0 d m [mI a1, mI a2, mI a3, mI a4] (some (mI r)) d m := by
  obtain ⟨x, h, K⟩ : ∃ x, fX12_nth a1 a2 a3 a4 = some x ∧ x = r := ⟨_, h, rfl⟩
  refine VM.of (L := [mI a1, mI a2, mI a3, mI a4, mU, mU]) (by decide +kernel) rfl (Nat.le_of_ble_eq_true rfl) fun G F _ => v_fact fun _ hX _ _ => ?_
  unfold fX12_nth at h
  refine v_iload_n F dX12_nth_0 rfl rfl ?_
  refine v_iload_n F dX12_nth_1 rfl rfl ?_
  refine v_iconst F dX12_nth_2 ⟨by decide, by decide⟩ ?_
  refine v_sipush F dX12_nth_3 rfl ⟨by decide, by decide⟩ ?_
  refine v_callSv F dX12_nth_6 cs_X12_29 rfl (vm_X12_is) rfl (rOk.of rfl) ?_
  refine v_if_eq F dX12_nth_9 rfl (fun hq1 => ?_) (fun hq1 => ?_)
  · rw [if_pos hq1] at h
    refine v_iconst F dX12_nth_21 ⟨by decide, by decide⟩ ?_
    cases h
    cases (show _ = r from K)
    exact v_iret F dX12_nth_22
  · rw [if_neg hq1] at h
    refine v_iload_n F dX12_nth_12 rfl rfl ?_
    refine v_iconst F dX12_nth_13 ⟨by decide, by decide⟩ ?_
    refine v_iconst F dX12_nth_14 ⟨by decide, by decide⟩ ?_
    refine v_callSv F dX12_nth_15 cs_X12_15 rfl (vm_X0_within) rfl (rOk.of rfl) ?_
    refine v_if_ne F dX12_nth_18 rfl (fun hq2 => ?_) (fun hq2 => ?_)
    · rw [if_neg hq2] at h
      refine v_iload_n F dX12_nth_23 rfl rfl ?_
      refine v_iload_n F dX12_nth_24 rfl rfl ?_
      refine v_iconst F dX12_nth_25 ⟨by decide, by decide⟩ ?_
      obtain ⟨x3, hc4, h⟩ := b1_some h
      refine v_callSv F dX12_nth_26 cs_X12_33 rfl (vm_X12_of hc4) rfl (rOk.of rfl) ?_
      refine v_istore F dX12_nth_29 (Nat.le_of_ble_eq_true rfl) (L' := [mI a1, mI a2, mI a3, mI a4, mI x3, mU]) rfl ?_
      refine v_iload_n F dX12_nth_31 rfl rfl ?_
      refine v_iload F dX12_nth_32 rfl ?_
      obtain ⟨x5, hc6, h⟩ := b1_some h
      refine v_callSv F dX12_nth_34 cs_X12_37 rfl (vm_X12_weekday hc6) rfl (rOk.of rfl) ?_
      refine v_isub F dX12_nth_37 ?_
      refine v_bipush F dX12_nth_38 rfl ⟨by decide, by decide⟩ ?_
      obtain ⟨x7, hc8, h⟩ := b1_some h
      refine v_callSv F dX12_nth_40 cs_X12_24 rfl (vm_J9_floorMod hc8) rfl (rOk.of rfl) ?_
      refine v_bipush F dX12_nth_43 rfl ⟨by decide, by decide⟩ ?_
      refine v_iload_n F dX12_nth_45 rfl rfl ?_
      refine v_iconst F dX12_nth_46 ⟨by decide, by decide⟩ ?_
      refine v_isub F dX12_nth_47 ?_
      refine v_imul F dX12_nth_48 ?_
      refine v_iadd F dX12_nth_49 ?_
      obtain ⟨x9, ex9, h⟩ := lv_some h
      refine v_nI ex9 ?_
      refine v_istore F dX12_nth_50 (Nat.le_of_ble_eq_true rfl) (L' := [mI a1, mI a2, mI a3, mI a4, mI x3, mI x9]) rfl ?_
      refine v_iload F dX12_nth_52 rfl ?_
      refine v_iload_n F dX12_nth_54 rfl rfl ?_
      refine v_iload_n F dX12_nth_55 rfl rfl ?_
      refine v_callSv F dX12_nth_56 cs_X12_19 rfl (vm_X12_lengthOf) rfl (rOk.of rfl) ?_
      refine v_icmp_ge F dX12_nth_59 rfl (fun hq10 => ?_) (fun hq10 => ?_)
      · rw [if_pos hq10] at h
        refine v_iconst F dX12_nth_70 ⟨by decide, by decide⟩ ?_
        cases h
        cases (show _ = r from K)
        exact v_iret F dX12_nth_71
      · rw [if_neg hq10] at h
        refine v_iload F dX12_nth_62 rfl ?_
        refine v_iload F dX12_nth_64 rfl ?_
        refine v_iadd F dX12_nth_66 ?_
        refine v_goto F dX12_nth_67 rfl ?_
        cases h
        cases (show _ = r from K)
        exact v_iret F dX12_nth_71
    · rw [if_pos hq2] at h
      refine v_iconst F dX12_nth_21 ⟨by decide, by decide⟩ ?_
      cases h
      cases (show _ = r from K)
      exact v_iret F dX12_nth_22
theorem vm_X2_dateBehind {w : Wd} {l : Launch} {d m : Dt} {a1 : Int} {d' : Dt} {r : Option Int} (hp : PB m 10 2) (h : fX2_dateBehind d a1 = some (d', r)) : VMX w l WF yX2_dateBehind cX2_dateBehind 4 (some .int) 8 171 d m [mA 10, mI a1] (r.map fun v => some (mI v)) d' m := by
  obtain ⟨x, h, K⟩ : ∃ x, fX2_dateBehind d a1 = some x ∧ x = (d', r) := ⟨_, h, rfl⟩
  refine VMX.of (L := [mA 10, mI a1, mU, mU]) (by decide +kernel) rfl (Nat.le_of_ble_eq_true rfl) fun G F hT => v_fact fun _ hX _ _ => ?_
  unfold fX2_dateBehind at h
  refine v_aload_n F dX2_dateBehind_0 rfl rfl ?_
  refine v_bipush F dX2_dateBehind_1 rfl ⟨by decide, by decide⟩ ?_
  refine v_callVv (c := 2) F dX2_dateBehind_3 cv_X2_212 rfl (PB.ob hp hX (Nat.le_of_ble_eq_true rfl)) (Nat.le_of_ble_eq_true rfl) rfl (vm_X2_isSign hp) rfl (rOk.of rfl) ?_
  refine v_if_eq F dX2_dateBehind_6 rfl (fun hq1 => ?_) (fun hq1 => ?_)
  · rw [if_pos hq1] at h
    refine v_aload_n F dX2_dateBehind_52 rfl rfl ?_
    refine v_bipush F dX2_dateBehind_53 rfl ⟨by decide, by decide⟩ ?_
    refine v_bipush F dX2_dateBehind_55 rfl ⟨by decide, by decide⟩ ?_
    obtain ⟨d2, x4o, hc3, ho5⟩ := bx_some h
    clear h
    rcases ho5 with ⟨rfl, h⟩ | ⟨x4, rfl, h⟩
    · refine v_callXt (c := 2) F dX2_dateBehind_57 cl_X2_222 rfl (PB.ob hp hX (Nat.le_of_ble_eq_true rfl)) (Nat.le_of_ble_eq_true rfl) rfl (vm_X2_oneOf hp hc3) rfl (rOk.of rfl) ?_
      cases h
      cases (show _ = (d', r) from K)
      exact v_leave F hT (PB.ob (ob_X2_1 hX hp (v := 11)) hX (Nat.le_of_ble_eq_true rfl))
    refine v_callXv (c := 2) F dX2_dateBehind_57 cl_X2_222 rfl (PB.ob hp hX (Nat.le_of_ble_eq_true rfl)) (Nat.le_of_ble_eq_true rfl) rfl (vm_X2_oneOf hp hc3) rfl (rOk.of rfl) ?_
    refine v_istore_n F dX2_dateBehind_60 rfl (Nat.le_of_ble_eq_true rfl) (L' := [mA 10, mI a1, mI x4, mU]) rfl ?_
    refine v_aload_n F dX2_dateBehind_61 rfl rfl ?_
    obtain ⟨d6, x8o, hc7, ho9⟩ := bx_some h
    clear h
    rcases ho9 with ⟨rfl, h⟩ | ⟨x8, rfl, h⟩
    · refine v_callXt (c := 2) F dX2_dateBehind_62 cl_X2_219 rfl (PB.ob hp hX (Nat.le_of_ble_eq_true rfl)) (Nat.le_of_ble_eq_true rfl) rfl (vm_X2_number hp hc7) rfl (rOk.of rfl) ?_
      cases h
      cases (show _ = (d', r) from K)
      exact v_leave F hT (PB.ob (ob_X2_1 hX hp (v := 11)) hX (Nat.le_of_ble_eq_true rfl))
    refine v_callXv (c := 2) F dX2_dateBehind_62 cl_X2_219 rfl (PB.ob hp hX (Nat.le_of_ble_eq_true rfl)) (Nat.le_of_ble_eq_true rfl) rfl (vm_X2_number hp hc7) rfl (rOk.of rfl) ?_
    refine v_istore_n F dX2_dateBehind_65 rfl (Nat.le_of_ble_eq_true rfl) (L' := [mA 10, mI a1, mI x4, mI x8]) rfl ?_
    refine v_iload_n F dX2_dateBehind_66 rfl rfl ?_
    refine v_iload_n F dX2_dateBehind_67 rfl rfl ?_
    refine v_iload_n F dX2_dateBehind_68 rfl rfl ?_
    refine v_aload_n F dX2_dateBehind_69 rfl rfl ?_
    obtain ⟨d10, x12o, hc11, ho13⟩ := bx_some h
    clear h
    rcases ho13 with ⟨rfl, h⟩ | ⟨x12, rfl, h⟩
    · refine v_callXt (c := 2) F dX2_dateBehind_70 cl_X2_219 rfl (PB.ob hp hX (Nat.le_of_ble_eq_true rfl)) (Nat.le_of_ble_eq_true rfl) rfl (vm_X2_number hp hc11) rfl (rOk.of rfl) ?_
      cases h
      cases (show _ = (d', r) from K)
      exact v_leave F hT (PB.ob (ob_X2_1 hX hp (v := 11)) hX (Nat.le_of_ble_eq_true rfl))
    refine v_callXv (c := 2) F dX2_dateBehind_70 cl_X2_219 rfl (PB.ob hp hX (Nat.le_of_ble_eq_true rfl)) (Nat.le_of_ble_eq_true rfl) rfl (vm_X2_number hp hc11) rfl (rOk.of rfl) ?_
    obtain ⟨x14, hc15, h⟩ := b1_some h
    refine v_callSv F dX2_dateBehind_73 cs_X2_255 rfl (vm_X12_nth hc15) rfl (rOk.of rfl) ?_
    cases h
    cases (show _ = (d', r) from K)
    refine v_xret ?_
    exact v_iret F dX2_dateBehind_76
  · rw [if_neg hq1] at h
    refine v_aload_n F dX2_dateBehind_9 rfl rfl ?_
    obtain ⟨d16, hc17, h⟩ := bd_some h
    refine v_callV0 (c := 2) F dX2_dateBehind_10 cv_X2_209 rfl (PB.ob hp hX (Nat.le_of_ble_eq_true rfl)) (Nat.le_of_ble_eq_true rfl) rfl (vm_X2_take hp hc17) rfl (rOk.of rfl) ?_
    refine v_aload_n F dX2_dateBehind_13 rfl rfl ?_
    obtain ⟨d18, x20o, hc19, ho21⟩ := bx_some h
    clear h
    rcases ho21 with ⟨rfl, h⟩ | ⟨x20, rfl, h⟩
    · refine v_callXt (c := 2) F dX2_dateBehind_14 cl_X2_219 rfl (PB.ob hp hX (Nat.le_of_ble_eq_true rfl)) (Nat.le_of_ble_eq_true rfl) rfl (vm_X2_number hp hc19) rfl (rOk.of rfl) ?_
      cases h
      cases (show _ = (d', r) from K)
      exact v_leave F hT (PB.ob (ob_X2_1 hX hp (v := 11)) hX (Nat.le_of_ble_eq_true rfl))
    refine v_callXv (c := 2) F dX2_dateBehind_14 cl_X2_219 rfl (PB.ob hp hX (Nat.le_of_ble_eq_true rfl)) (Nat.le_of_ble_eq_true rfl) rfl (vm_X2_number hp hc19) rfl (rOk.of rfl) ?_
    refine v_istore_n F dX2_dateBehind_17 rfl (Nat.le_of_ble_eq_true rfl) (L' := [mA 10, mI a1, mI x20, mU]) rfl ?_
    refine v_aload_n F dX2_dateBehind_18 rfl rfl ?_
    refine v_bipush F dX2_dateBehind_19 rfl ⟨by decide, by decide⟩ ?_
    obtain ⟨d22, x24o, hc23, ho25⟩ := bx_some h
    clear h
    rcases ho25 with ⟨rfl, h⟩ | ⟨x24, rfl, h⟩
    · refine v_callXt (c := 2) F dX2_dateBehind_21 cl_X2_244 rfl (PB.ob hp hX (Nat.le_of_ble_eq_true rfl)) (Nat.le_of_ble_eq_true rfl) rfl (vm_X2_sign hp hc23) rfl (rOk.of rfl) ?_
      cases h
      cases (show _ = (d', r) from K)
      exact v_leave F hT (PB.ob (ob_X2_1 hX hp (v := 11)) hX (Nat.le_of_ble_eq_true rfl))
    refine v_callX0 (c := 2) F dX2_dateBehind_21 cl_X2_244 rfl (PB.ob hp hX (Nat.le_of_ble_eq_true rfl)) (Nat.le_of_ble_eq_true rfl) rfl (vm_X2_sign hp hc23) rfl (rOk.of rfl) ?_
    refine v_aload_n F dX2_dateBehind_24 rfl rfl ?_
    obtain ⟨d26, x28o, hc27, ho29⟩ := bx_some h
    clear h
    rcases ho29 with ⟨rfl, h⟩ | ⟨x28, rfl, h⟩
    · refine v_callXt (c := 2) F dX2_dateBehind_25 cl_X2_219 rfl (PB.ob hp hX (Nat.le_of_ble_eq_true rfl)) (Nat.le_of_ble_eq_true rfl) rfl (vm_X2_number hp hc27) rfl (rOk.of rfl) ?_
      cases h
      cases (show _ = (d', r) from K)
      exact v_leave F hT (PB.ob (ob_X2_1 hX hp (v := 11)) hX (Nat.le_of_ble_eq_true rfl))
    refine v_callXv (c := 2) F dX2_dateBehind_25 cl_X2_219 rfl (PB.ob hp hX (Nat.le_of_ble_eq_true rfl)) (Nat.le_of_ble_eq_true rfl) rfl (vm_X2_number hp hc27) rfl (rOk.of rfl) ?_
    refine v_istore_n F dX2_dateBehind_28 rfl (Nat.le_of_ble_eq_true rfl) (L' := [mA 10, mI a1, mI x20, mI x28]) rfl ?_
    refine v_iload_n F dX2_dateBehind_29 rfl rfl ?_
    refine v_iload_n F dX2_dateBehind_30 rfl rfl ?_
    refine v_iload_n F dX2_dateBehind_31 rfl rfl ?_
    refine v_sipush F dX2_dateBehind_32 rfl ⟨by decide, by decide⟩ ?_
    refine v_callSv F dX2_dateBehind_35 cs_X2_248 rfl (vm_X12_is) rfl (rOk.of rfl) ?_
    refine v_if_eq F dX2_dateBehind_38 rfl (fun hq30 => ?_) (fun hq30 => ?_)
    · rw [if_pos hq30] at h
      refine v_iconst F dX2_dateBehind_50 ⟨by decide, by decide⟩ ?_
      cases h
      cases (show _ = (d', r) from K)
      refine v_xret ?_
      exact v_iret F dX2_dateBehind_51
    · rw [if_neg hq30] at h
      refine v_iload_n F dX2_dateBehind_41 rfl rfl ?_
      refine v_iload_n F dX2_dateBehind_42 rfl rfl ?_
      refine v_iload_n F dX2_dateBehind_43 rfl rfl ?_
      obtain ⟨x31, hc32, h⟩ := b1_some h
      refine v_callSv F dX2_dateBehind_44 cs_X2_252 rfl (vm_X12_of hc32) rfl (rOk.of rfl) ?_
      refine v_goto F dX2_dateBehind_47 rfl ?_
      cases h
      cases (show _ = (d', r) from K)
      refine v_xret ?_
      exact v_iret F dX2_dateBehind_51
theorem fX2_date_93_ok {w : Wd} {l : Launch} {G : Cx} {d m dd : Dt} {v1 v2 s1 : Int} {d' : Dt} {r : Option Int} {x : (Dt × Option Int)} (F : Fx w G cX2_date RX2 5 (some .int) { frames := 9, cells := 0, slots := 0, locals := 194 }) (hX : WF dd m) (hT : NoT G) (hp : PB m 10 2) (h : fX2_date_93 d v1 v2 s1 = some x) (K : (fun q => q = (d', r)) x) : V w l WF G (QX w G WF (r.map fun v => some (mI v)) d' m) d m 0 0 93 [mU, mI v1, mI v2, mU, mU] [mI s1, mA 10] := by
  unfold fX2_date_93 at h
  refine v_iload_n F dX2_date_93 rfl rfl ?_
  obtain ⟨d13, hc14, h⟩ := bd_some h
  refine v_callV0 (c := 2) F dX2_date_94 cv_X2_215 rfl (PB.ob hp hX (Nat.le_of_ble_eq_true rfl)) (Nat.le_of_ble_eq_true rfl) rfl (vm_X2_note hp hc14) rfl (rOk.of rfl) ?_
  refine v_iconst F dX2_date_97 ⟨by decide, by decide⟩ ?_
  refine v_iload_n F dX2_date_98 rfl rfl ?_
  refine v_callSv F dX2_date_99 cs_X2_239 rfl (vm_J9_max) rfl (rOk.of rfl) ?_
  cases h
  cases (show _ = (d', r) from K)
  refine v_xret ?_
  exact v_iret F dX2_date_102
theorem fX2_date_82_ok {w : Wd} {l : Launch} {G : Cx} {d m dd : Dt} {v1 v2 : Int} {d' : Dt} {r : Option Int} {x : (Dt × Option Int)} (F : Fx w G cX2_date RX2 5 (some .int) { frames := 9, cells := 0, slots := 0, locals := 194 }) (hX : WF dd m) (hT : NoT G) (hp : PB m 10 2) (h : fX2_date_82 d v1 v2 = some x) (K : (fun q => q = (d', r)) x) : V w l WF G (QX w G WF (r.map fun v => some (mI v)) d' m) d m 0 0 82 [mA 10, mI v1, mI v2, mU, mU] [] := by
  unfold fX2_date_82 at h
  refine v_aload_n F dX2_date_82 rfl rfl ?_
  refine v_iload_n F dX2_date_83 rfl rfl ?_
  refine v_iconst F dX2_date_84 ⟨by decide, by decide⟩ ?_
  refine v_icmp_eq F dX2_date_85 rfl (fun hq12 => ?_) (fun hq12 => ?_)
  · rw [if_pos hq12] at h
    refine v_iconst F dX2_date_92 ⟨by decide, by decide⟩ ?_
    refine v_fgt (L' := [mU, mI v1, mI v2, mU, mU]) ⟨Or.inr rfl, Or.inl rfl, Or.inl rfl, Or.inl rfl, Or.inl rfl, trivial⟩ ?_
    exact fX2_date_93_ok F hX hT hp h K
  · rw [if_neg hq12] at h
    refine v_iconst F dX2_date_88 ⟨by decide, by decide⟩ ?_
    refine v_goto F dX2_date_89 rfl ?_
    refine v_fgt (L' := [mU, mI v1, mI v2, mU, mU]) ⟨Or.inr rfl, Or.inl rfl, Or.inl rfl, Or.inl rfl, Or.inl rfl, trivial⟩ ?_
    exact fX2_date_93_ok F hX hT hp h K
theorem vm_X2_date {w : Wd} {l : Launch} {d m : Dt} {d' : Dt} {r : Option Int} (hp : PB m 10 2) (h : fX2_date d = some (d', r)) : VMX w l WF yX2_date cX2_date 5 (some .int) 9 194 d m [mA 10] (r.map fun v => some (mI v)) d' m := by
  obtain ⟨x, h, K⟩ : ∃ x, fX2_date d = some x ∧ x = (d', r) := ⟨_, h, rfl⟩
  refine VMX.of (L := [mA 10, mU, mU, mU, mU]) (by decide +kernel) rfl (Nat.le_of_ble_eq_true rfl) fun G F hT => v_fact fun _ hX _ _ => ?_
  unfold fX2_date at h
  refine v_aload_n F dX2_date_0 rfl rfl ?_
  refine gf_X2_150 F dX2_date_1 hp ?_
  obtain ⟨x1, ex1, h⟩ := lv_some h
  refine v_nI ex1 ?_
  refine v_istore_n F dX2_date_4 rfl (Nat.le_of_ble_eq_true rfl) (L' := [mA 10, mI x1, mU, mU, mU]) rfl ?_
  refine v_iconst F dX2_date_5 ⟨by decide, by decide⟩ ?_
  refine v_istore_n F dX2_date_6 rfl (Nat.le_of_ble_eq_true rfl) (L' := [mA 10, mI x1, mI (-1), mU, mU]) rfl ?_
  refine v_aload_n F dX2_date_7 rfl rfl ?_
  refine v_bipush F dX2_date_8 rfl ⟨by decide, by decide⟩ ?_
  refine v_callVv (c := 2) F dX2_date_10 cv_X2_202 rfl (PB.ob hp hX (Nat.le_of_ble_eq_true rfl)) (Nat.le_of_ble_eq_true rfl) rfl (vm_X2_isWordHere hp) rfl (rOk.of rfl) ?_
  refine v_if_eq F dX2_date_13 rfl (fun hq2 => ?_) (fun hq2 => ?_)
  · rw [if_pos hq2] at h
    refine v_aload_n F dX2_date_49 rfl rfl ?_
    refine v_bipush F dX2_date_50 rfl ⟨by decide, by decide⟩ ?_
    refine v_callVv (c := 2) F dX2_date_52 cv_X2_202 rfl (PB.ob hp hX (Nat.le_of_ble_eq_true rfl)) (Nat.le_of_ble_eq_true rfl) rfl (vm_X2_isWordHere hp) rfl (rOk.of rfl) ?_
    refine v_if_eq F dX2_date_55 rfl (fun hq3 => ?_) (fun hq3 => ?_)
    · rw [if_pos hq3] at h
      refine v_aload_n F dX2_date_73 rfl rfl ?_
      refine v_aload_n F dX2_date_74 rfl rfl ?_
      obtain ⟨d4, x6o, hc5, ho7⟩ := bx_some h
      clear h
      rcases ho7 with ⟨rfl, h⟩ | ⟨x6, rfl, h⟩
      · refine v_callXt (c := 2) F dX2_date_75 cl_X2_219 rfl (PB.ob hp hX (Nat.le_of_ble_eq_true rfl)) (Nat.le_of_ble_eq_true rfl) rfl (vm_X2_number hp hc5) rfl (rOk.of rfl) ?_
        cases h
        cases (show _ = (d', r) from K)
        exact v_leave F hT (PB.ob (ob_X2_1 hX hp (v := 11)) hX (Nat.le_of_ble_eq_true rfl))
      refine v_callXv (c := 2) F dX2_date_75 cl_X2_219 rfl (PB.ob hp hX (Nat.le_of_ble_eq_true rfl)) (Nat.le_of_ble_eq_true rfl) rfl (vm_X2_number hp hc5) rfl (rOk.of rfl) ?_
      obtain ⟨d8, x10o, hc9, ho11⟩ := bx_some h
      clear h
      rcases ho11 with ⟨rfl, h⟩ | ⟨x10, rfl, h⟩
      · refine v_callXt (c := 2) F dX2_date_78 cl_X2_236 rfl (PB.ob hp hX (Nat.le_of_ble_eq_true rfl)) (Nat.le_of_ble_eq_true rfl) rfl (vm_X2_dateBehind hp hc9) rfl (rOk.of rfl) ?_
        cases h
        cases (show _ = (d', r) from K)
        exact v_leave F hT (PB.ob (ob_X2_1 hX hp (v := 11)) hX (Nat.le_of_ble_eq_true rfl))
      refine v_callXv (c := 2) F dX2_date_78 cl_X2_236 rfl (PB.ob hp hX (Nat.le_of_ble_eq_true rfl)) (Nat.le_of_ble_eq_true rfl) rfl (vm_X2_dateBehind hp hc9) rfl (rOk.of rfl) ?_
      refine v_istore_n F dX2_date_81 rfl (Nat.le_of_ble_eq_true rfl) (L' := [mA 10, mI x1, mI x10, mU, mU]) rfl ?_
      exact fX2_date_82_ok F hX hT hp h K
    · rw [if_neg hq3] at h
      refine v_aload_n F dX2_date_58 rfl rfl ?_
      obtain ⟨d15, hc16, h⟩ := bd_some h
      refine v_callV0 (c := 2) F dX2_date_59 cv_X2_209 rfl (PB.ob hp hX (Nat.le_of_ble_eq_true rfl)) (Nat.le_of_ble_eq_true rfl) rfl (vm_X2_take hp hc16) rfl (rOk.of rfl) ?_
      refine v_aload_n F dX2_date_62 rfl rfl ?_
      obtain ⟨d17, x19o, hc18, ho20⟩ := bx_some h
      clear h
      rcases ho20 with ⟨rfl, h⟩ | ⟨x19, rfl, h⟩
      · refine v_callXt (c := 2) F dX2_date_63 cl_X2_219 rfl (PB.ob hp hX (Nat.le_of_ble_eq_true rfl)) (Nat.le_of_ble_eq_true rfl) rfl (vm_X2_number hp hc18) rfl (rOk.of rfl) ?_
        cases h
        cases (show _ = (d', r) from K)
        exact v_leave F hT (PB.ob (ob_X2_1 hX hp (v := 11)) hX (Nat.le_of_ble_eq_true rfl))
      refine v_callXv (c := 2) F dX2_date_63 cl_X2_219 rfl (PB.ob hp hX (Nat.le_of_ble_eq_true rfl)) (Nat.le_of_ble_eq_true rfl) rfl (vm_X2_number hp hc18) rfl (rOk.of rfl) ?_
      obtain ⟨x21, hc22, h⟩ := b1_some h
      refine v_callSv F dX2_date_66 cs_X2_232 rfl (vm_X12_easter hc22) rfl (rOk.of rfl) ?_
      refine v_istore_n F dX2_date_69 rfl (Nat.le_of_ble_eq_true rfl) (L' := [mA 10, mI x1, mI x21, mU, mU]) rfl ?_
      refine v_goto F dX2_date_70 rfl ?_
      exact fX2_date_82_ok F hX hT hp h K
  · rw [if_neg hq2] at h
    refine v_aload_n F dX2_date_16 rfl rfl ?_
    obtain ⟨d23, hc24, h⟩ := bd_some h
    refine v_callV0 (c := 2) F dX2_date_17 cv_X2_209 rfl (PB.ob hp hX (Nat.le_of_ble_eq_true rfl)) (Nat.le_of_ble_eq_true rfl) rfl (vm_X2_take hp hc24) rfl (rOk.of rfl) ?_
    refine v_aload_n F dX2_date_20 rfl rfl ?_
    refine v_bipush F dX2_date_21 rfl ⟨by decide, by decide⟩ ?_
    refine v_bipush F dX2_date_23 rfl ⟨by decide, by decide⟩ ?_
    obtain ⟨d25, x27o, hc26, ho28⟩ := bx_some h
    clear h
    rcases ho28 with ⟨rfl, h⟩ | ⟨x27, rfl, h⟩
    · refine v_callXt (c := 2) F dX2_date_25 cl_X2_222 rfl (PB.ob hp hX (Nat.le_of_ble_eq_true rfl)) (Nat.le_of_ble_eq_true rfl) rfl (vm_X2_oneOf hp hc26) rfl (rOk.of rfl) ?_
      cases h
      cases (show _ = (d', r) from K)
      exact v_leave F hT (PB.ob (ob_X2_1 hX hp (v := 11)) hX (Nat.le_of_ble_eq_true rfl))
    refine v_callXv (c := 2) F dX2_date_25 cl_X2_222 rfl (PB.ob hp hX (Nat.le_of_ble_eq_true rfl)) (Nat.le_of_ble_eq_true rfl) rfl (vm_X2_oneOf hp hc26) rfl (rOk.of rfl) ?_
    refine v_istore_n F dX2_date_28 rfl (Nat.le_of_ble_eq_true rfl) (L' := [mA 10, mI x1, mI (-1), mI x27, mU]) rfl ?_
    refine v_aload_n F dX2_date_29 rfl rfl ?_
    obtain ⟨d29, x31o, hc30, ho32⟩ := bx_some h
    clear h
    rcases ho32 with ⟨rfl, h⟩ | ⟨x31, rfl, h⟩
    · refine v_callXt (c := 2) F dX2_date_30 cl_X2_219 rfl (PB.ob hp hX (Nat.le_of_ble_eq_true rfl)) (Nat.le_of_ble_eq_true rfl) rfl (vm_X2_number hp hc30) rfl (rOk.of rfl) ?_
      cases h
      cases (show _ = (d', r) from K)
      exact v_leave F hT (PB.ob (ob_X2_1 hX hp (v := 11)) hX (Nat.le_of_ble_eq_true rfl))
    refine v_callXv (c := 2) F dX2_date_30 cl_X2_219 rfl (PB.ob hp hX (Nat.le_of_ble_eq_true rfl)) (Nat.le_of_ble_eq_true rfl) rfl (vm_X2_number hp hc30) rfl (rOk.of rfl) ?_
    refine v_istore F dX2_date_33 (Nat.le_of_ble_eq_true rfl) (L' := [mA 10, mI x1, mI (-1), mI x27, mI x31]) rfl ?_
    refine v_iload_n F dX2_date_35 rfl rfl ?_
    refine v_iload F dX2_date_36 rfl ?_
    refine v_aload_n F dX2_date_38 rfl rfl ?_
    obtain ⟨d33, x35o, hc34, ho36⟩ := bx_some h
    clear h
    rcases ho36 with ⟨rfl, h⟩ | ⟨x35, rfl, h⟩
    · refine v_callXt (c := 2) F dX2_date_39 cl_X2_219 rfl (PB.ob hp hX (Nat.le_of_ble_eq_true rfl)) (Nat.le_of_ble_eq_true rfl) rfl (vm_X2_number hp hc34) rfl (rOk.of rfl) ?_
      cases h
      cases (show _ = (d', r) from K)
      exact v_leave F hT (PB.ob (ob_X2_1 hX hp (v := 11)) hX (Nat.le_of_ble_eq_true rfl))
    refine v_callXv (c := 2) F dX2_date_39 cl_X2_219 rfl (PB.ob hp hX (Nat.le_of_ble_eq_true rfl)) (Nat.le_of_ble_eq_true rfl) rfl (vm_X2_number hp hc34) rfl (rOk.of rfl) ?_
    obtain ⟨x37, hc38, h⟩ := b1_some h
    refine v_callSv F dX2_date_42 cs_X2_226 rfl (vm_X12_last hc38) rfl (rOk.of rfl) ?_
    refine v_istore_n F dX2_date_45 rfl (Nat.le_of_ble_eq_true rfl) (L' := [mA 10, mI x1, mI x37, mI x27, mI x31]) rfl ?_
    refine v_goto F dX2_date_46 rfl ?_
    refine v_fgt (L' := [mA 10, mI x1, mI x37, mU, mU]) ⟨Or.inl rfl, Or.inl rfl, Or.inl rfl, Or.inr rfl, Or.inr rfl, trivial⟩ ?_
    exact fX2_date_82_ok F hX hT hp h K
def fX2_time_10P (w : Wd) (l : Launch) (G : Cx) (Q : State → Prop) (m : Dt) (v1 : Int) (s : Dt × Int) : Prop := V w l WF G Q s.1 m 0 0 10 [mA 10, mI v1, mI (s.2), mU, mU] []
theorem fX2_time_58_ok {w : Wd} {l : Launch} {G : Cx} {d m dd : Dt} {v1 s0 s1 : Int} {d' : Dt} {r : Option Int} {x : ((Dt × Int) ⊕ (Dt × Option Int))} (F : Fx w G cX2_time RX2 5 (some .int) { frames := 10, cells := 0, slots := 0, locals := 218 }) (hX : WF dd m) (hT : NoT G) (hp : PB m 10 2) (h : fX2_time_58 d v1 s0 s1 = some x) (K : (Sum.elim (fX2_time_10P w l G (QX w G WF (r.map fun v => some (mI v)) d' m) m v1) (fun q => q = (d', r))) x) : V w l WF G (QX w G WF (r.map fun v => some (mI v)) d' m) d m 0 0 58 [mA 10, mI v1, mU, mU, mU] [mI s1, mI s0] := by
  unfold fX2_time_58 at h
  refine v_iadd F dX2_time_58 ?_
  obtain ⟨x15, ex15, h⟩ := lv_some h
  refine v_nI ex15 ?_
  refine v_istore_n F dX2_time_59 rfl (Nat.le_of_ble_eq_true rfl) (L' := [mA 10, mI v1, mI x15, mU, mU]) rfl ?_
  refine v_aload_n F dX2_time_60 rfl rfl ?_
  refine v_iload_n F dX2_time_61 rfl rfl ?_
  refine v_iconst F dX2_time_62 ⟨by decide, by decide⟩ ?_
  refine v_ldcw (n := 36524) F dX2_time_63 q1522 rfl ⟨by decide, by decide⟩ ?_
  refine v_callSv F dX2_time_66 cs_X2_163 rfl (vm_X0_within) rfl (rOk.of rfl) ?_
  refine v_iload_n F dX2_time_69 rfl rfl ?_
  obtain ⟨d16, hc17, h⟩ := bd_some h
  refine v_callV0 (c := 2) F dX2_time_70 cv_X2_215 rfl (PB.ob hp hX (Nat.le_of_ble_eq_true rfl)) (Nat.le_of_ble_eq_true rfl) rfl (vm_X2_note hp hc17) rfl (rOk.of rfl) ?_
  refine v_goto F dX2_time_73 rfl ?_
  cases h
  exact K
theorem fX2_time_28_ok {w : Wd} {l : Launch} {G : Cx} {d m dd : Dt} {v1 v2 : Int} {d' : Dt} {r : Option Int} {x : ((Dt × Int) ⊕ (Dt × Option Int))} (F : Fx w G cX2_time RX2 5 (some .int) { frames := 10, cells := 0, slots := 0, locals := 218 }) (hX : WF dd m) (hT : NoT G) (hp : PB m 10 2) (h : fX2_time_28 d v1 v2 = some x) (K : (Sum.elim (fX2_time_10P w l G (QX w G WF (r.map fun v => some (mI v)) d' m) m v1) (fun q => q = (d', r))) x) : V w l WF G (QX w G WF (r.map fun v => some (mI v)) d' m) d m 0 0 28 [mA 10, mI v1, mI v2, mU, mU] [] := by
  unfold fX2_time_28 at h
  refine v_aload_n F dX2_time_28 rfl rfl ?_
  refine v_bipush F dX2_time_29 rfl ⟨by decide, by decide⟩ ?_
  refine v_callVv (c := 2) F dX2_time_31 cv_X2_212 rfl (PB.ob hp hX (Nat.le_of_ble_eq_true rfl)) (Nat.le_of_ble_eq_true rfl) rfl (vm_X2_isSign hp) rfl (rOk.of rfl) ?_
  obtain ⟨x7, ex7, h⟩ := lv_some h
  refine v_nI ex7 ?_
  refine v_istore_n F dX2_time_34 rfl (Nat.le_of_ble_eq_true rfl) (L' := [mA 10, mI v1, mI v2, mI x7, mU]) rfl ?_
  refine v_aload_n F dX2_time_35 rfl rfl ?_
  obtain ⟨d8, hc9, h⟩ := bd_some h
  refine v_callV0 (c := 2) F dX2_time_36 cv_X2_209 rfl (PB.ob hp hX (Nat.le_of_ble_eq_true rfl)) (Nat.le_of_ble_eq_true rfl) rfl (vm_X2_take hp hc9) rfl (rOk.of rfl) ?_
  refine v_aload_n F dX2_time_39 rfl rfl ?_
  obtain ⟨d10, x12o, hc11, ho13⟩ := bx_some h
  clear h
  rcases ho13 with ⟨rfl, h⟩ | ⟨x12, rfl, h⟩
  · refine v_callXt (c := 2) F dX2_time_40 cl_X2_219 rfl (PB.ob hp hX (Nat.le_of_ble_eq_true rfl)) (Nat.le_of_ble_eq_true rfl) rfl (vm_X2_number hp hc11) rfl (rOk.of rfl) ?_
    cases h
    cases (show _ = (d', r) from K)
    exact v_leave F hT (PB.ob (ob_X2_1 hX hp (v := 11)) hX (Nat.le_of_ble_eq_true rfl))
  refine v_callXv (c := 2) F dX2_time_40 cl_X2_219 rfl (PB.ob hp hX (Nat.le_of_ble_eq_true rfl)) (Nat.le_of_ble_eq_true rfl) rfl (vm_X2_number hp hc11) rfl (rOk.of rfl) ?_
  refine v_istore F dX2_time_43 (Nat.le_of_ble_eq_true rfl) (L' := [mA 10, mI v1, mI v2, mI x7, mI x12]) rfl ?_
  refine v_iload_n F dX2_time_45 rfl rfl ?_
  refine v_iload_n F dX2_time_46 rfl rfl ?_
  refine v_if_eq F dX2_time_47 rfl (fun hq14 => ?_) (fun hq14 => ?_)
  · rw [if_pos hq14] at h
    refine v_iload F dX2_time_55 rfl ?_
    refine v_ineg F dX2_time_57 ?_
    refine v_fgt (L' := [mA 10, mI v1, mU, mU, mU]) ⟨Or.inl rfl, Or.inl rfl, Or.inr rfl, Or.inr rfl, Or.inr rfl, trivial⟩ ?_
    exact fX2_time_58_ok F hX hT hp h K
  · rw [if_neg hq14] at h
    refine v_iload F dX2_time_50 rfl ?_
    refine v_goto F dX2_time_52 rfl ?_
    refine v_fgt (L' := [mA 10, mI v1, mU, mU, mU]) ⟨Or.inl rfl, Or.inl rfl, Or.inr rfl, Or.inr rfl, Or.inr rfl, trivial⟩ ?_
    exact fX2_time_58_ok F hX hT hp h K
theorem fX2_time_10f_ok {w : Wd} {l : Launch} {G : Cx} {m dd : Dt} {v1 : Int} {d' : Dt} {r : Option Int} {s : Dt × Int} {x : ((Dt × Int) ⊕ (Dt × Option Int))} (F : Fx w G cX2_time RX2 5 (some .int) { frames := 10, cells := 0, slots := 0, locals := 218 }) (hX : WF dd m) (hT : NoT G) (hp : PB m 10 2) (h : fX2_time_10f v1 s = some x) (K : (Sum.elim (fX2_time_10P w l G (QX w G WF (r.map fun v => some (mI v)) d' m) m v1) (fun q => q = (d', r))) x) : V w l WF G (QX w G WF (r.map fun v => some (mI v)) d' m) s.1 m 0 0 10 [mA 10, mI v1, mI (s.2), mU, mU] [] := by
  obtain ⟨d, v2⟩ := s
  unfold fX2_time_10f at h
  dsimp only at h
  refine v_aload_n F dX2_time_10 rfl rfl ?_
  refine v_bipush F dX2_time_11 rfl ⟨by decide, by decide⟩ ?_
  refine v_callVv (c := 2) F dX2_time_13 cv_X2_212 rfl (PB.ob hp hX (Nat.le_of_ble_eq_true rfl)) (Nat.le_of_ble_eq_true rfl) rfl (vm_X2_isSign hp) rfl (rOk.of rfl) ?_
  refine v_if_ne F dX2_time_16 rfl (fun hq6 => ?_) (fun hq6 => ?_)
  · rw [if_neg hq6] at h
    exact fX2_time_28_ok F hX hT hp h K
  · rw [if_pos hq6] at h
    refine v_aload_n F dX2_time_19 rfl rfl ?_
    refine v_bipush F dX2_time_20 rfl ⟨by decide, by decide⟩ ?_
    refine v_callVv (c := 2) F dX2_time_22 cv_X2_212 rfl (PB.ob hp hX (Nat.le_of_ble_eq_true rfl)) (Nat.le_of_ble_eq_true rfl) rfl (vm_X2_isSign hp) rfl (rOk.of rfl) ?_
    refine v_if_eq F dX2_time_25 rfl (fun hq18 => ?_) (fun hq18 => ?_)
    · rw [if_pos hq18] at h
      obtain ⟨z, hu, ez⟩ := up_some h
      clear h
      subst ez
      have h := hu
      clear hu
      refine v_iload_n F dX2_time_76 rfl rfl ?_
      cases h
      cases (show _ = (d', r) from K)
      refine v_xret ?_
      exact v_iret F dX2_time_77
    · rw [if_neg hq18] at h
      exact fX2_time_28_ok F hX hT hp h K
theorem fX2_time_10_ok {w : Wd} {l : Launch} {G : Cx} {d m dd : Dt} {v1 v2 : Int} {d' : Dt} {r : Option Int} {x : (Dt × Option Int)} (F : Fx w G cX2_time RX2 5 (some .int) { frames := 10, cells := 0, slots := 0, locals := 218 }) (hX : WF dd m) (hT : NoT G) (hp : PB m 10 2) (h : fX2_time_10 d v1 v2 = some x) (K : (fun q => q = (d', r)) x) : V w l WF G (QX w G WF (r.map fun v => some (mI v)) d' m) d m 0 0 10 [mA 10, mI v1, mI v2, mU, mU] [] := by
  unfold fX2_time_10 at h
  exact loop_ok (P := fX2_time_10P w l G (QX w G WF (r.map fun v => some (mI v)) d' m) m v1) (fun s x hx h1 h2 => fX2_time_10f_ok F hX hT hp hx (by
    cases x with
    | inl s' => exact h1 s' rfl
    | inr z => cases h2 z rfl; exact K)) h
theorem vm_X2_time {w : Wd} {l : Launch} {d m : Dt} {d' : Dt} {r : Option Int} (hp : PB m 10 2) (h : fX2_time d = some (d', r)) : VMX w l WF yX2_time cX2_time 5 (some .int) 10 218 d m [mA 10] (r.map fun v => some (mI v)) d' m := by
  obtain ⟨x, h, K⟩ : ∃ x, fX2_time d = some x ∧ x = (d', r) := ⟨_, h, rfl⟩
  refine VMX.of (L := [mA 10, mU, mU, mU, mU]) (by decide +kernel) rfl (Nat.le_of_ble_eq_true rfl) fun G F hT => v_fact fun _ hX _ _ => ?_
  unfold fX2_time at h
  refine v_aload_n F dX2_time_0 rfl rfl ?_
  refine gf_X2_150 F dX2_time_1 hp ?_
  obtain ⟨x1, ex1, h⟩ := lv_some h
  refine v_nI ex1 ?_
  refine v_istore_n F dX2_time_4 rfl (Nat.le_of_ble_eq_true rfl) (L' := [mA 10, mI x1, mU, mU, mU]) rfl ?_
  refine v_aload_n F dX2_time_5 rfl rfl ?_
  obtain ⟨d2, x4o, hc3, ho5⟩ := bx_some h
  clear h
  rcases ho5 with ⟨rfl, h⟩ | ⟨x4, rfl, h⟩
  · refine v_callXt (c := 2) F dX2_time_6 cl_X2_259 rfl (PB.ob hp hX (Nat.le_of_ble_eq_true rfl)) (Nat.le_of_ble_eq_true rfl) rfl (vm_X2_date hp hc3) rfl (rOk.of rfl) ?_
    cases h
    cases (show _ = (d', r) from K)
    exact v_leave F hT (PB.ob (ob_X2_1 hX hp (v := 11)) hX (Nat.le_of_ble_eq_true rfl))
  refine v_callXv (c := 2) F dX2_time_6 cl_X2_259 rfl (PB.ob hp hX (Nat.le_of_ble_eq_true rfl)) (Nat.le_of_ble_eq_true rfl) rfl (vm_X2_date hp hc3) rfl (rOk.of rfl) ?_
  refine v_istore_n F dX2_time_9 rfl (Nat.le_of_ble_eq_true rfl) (L' := [mA 10, mI x1, mI x4, mU, mU]) rfl ?_
  exact fX2_time_10_ok F hX hT hp h K
def fX2_days_2P (w : Wd) (l : Launch) (G : Cx) (Q : State → Prop) (m : Dt) (s : Dt × Int) : Prop := V w l WF G Q s.1 m 0 0 2 [mA 10, mI (s.2), mU] []
theorem fX2_days_68_ok {w : Wd} {l : Launch} {G : Cx} {d m dd : Dt} {v1 v2 s1 : Int} {d' : Dt} {r : Option Int} {x : ((Dt × Int) ⊕ (Dt × Option Int))} (F : Fx w G cX2_days RX2 3 none { frames := 11, cells := 0, slots := 0, locals := 242 }) (hX : WF dd m) (hT : NoT G) (hp : PB m 10 2) (h : fX2_days_68 d v1 v2 s1 = some x) (K : (Sum.elim (fX2_days_2P w l G (QX w G WF (r.map fun _ => none) d' m) m) (fun q => q = (d', r))) x) : V w l WF G (QX w G WF (r.map fun _ => none) d' m) d m 0 0 68 [mA 10, mI v1, mI v2] [mI s1, mA 10] := by
  unfold fX2_days_68 at h
  refine v_iload_n F dX2_days_68 rfl rfl ?_
  obtain ⟨d14, hc15, h⟩ := bd_some h
  refine v_callV0 (c := 2) F dX2_days_69 cv_X2_215 rfl (PB.ob hp hX (Nat.le_of_ble_eq_true rfl)) (Nat.le_of_ble_eq_true rfl) rfl (vm_X2_note hp hc15) rfl (rOk.of rfl) ?_
  obtain ⟨x16, ex16, h⟩ := lv_some h
  refine v_iincN F dX2_days_72 (Nat.le_of_ble_eq_true rfl) rfl ex16 (L' := [mA 10, mI x16, mI v2]) rfl ?_
  refine v_goto F dX2_days_75 rfl ?_
  cases h
  refine v_fgt (L' := [mA 10, mI x16, mU]) ⟨Or.inl rfl, Or.inl rfl, Or.inr rfl, trivial⟩ ?_
  exact K
theorem fX2_days_17_ok {w : Wd} {l : Launch} {G : Cx} {d m dd : Dt} {v1 : Int} {d' : Dt} {r : Option Int} {x : ((Dt × Int) ⊕ (Dt × Option Int))} (F : Fx w G cX2_days RX2 3 none { frames := 11, cells := 0, slots := 0, locals := 242 }) (hX : WF dd m) (hT : NoT G) (hp : PB m 10 2) (h : fX2_days_17 d v1 = some x) (K : (Sum.elim (fX2_days_2P w l G (QX w G WF (r.map fun _ => none) d' m) m) (fun q => q = (d', r))) x) : V w l WF G (QX w G WF (r.map fun _ => none) d' m) d m 0 0 17 [mA 10, mI v1, mU] [] := by
  unfold fX2_days_17 at h
  refine v_aload_n F dX2_days_17 rfl rfl ?_
  refine gf_X2_150 F dX2_days_18 hp ?_
  obtain ⟨x3, ex3, h⟩ := lv_some h
  refine v_nI ex3 ?_
  refine v_istore_n F dX2_days_21 rfl (Nat.le_of_ble_eq_true rfl) (L' := [mA 10, mI v1, mI x3]) rfl ?_
  refine v_aload_n F dX2_days_22 rfl rfl ?_
  obtain ⟨x4, ex4, h⟩ := lv_some h
  obtain ⟨hn6, h⟩ := ck_some h
  refine gf_X2_263 F dX2_days_23 hp ex4 fun hr5 => ?_
  have x4p := hr5.resolve_left hn6
  refine gf_X2_267 F dX2_days_26 x4p (v := (x4 + 1)) rfl ?_
  refine v_iload_n F dX2_days_29 rfl rfl ?_
  refine v_aload_n F dX2_days_30 rfl rfl ?_
  obtain ⟨d7, x9o, hc8, ho10⟩ := bx_some h
  clear h
  rcases ho10 with ⟨rfl, h⟩ | ⟨x9, rfl, h⟩
  · refine v_callXt (c := 2) F dX2_days_31 cl_X2_272 rfl (PB.ob hp hX (Nat.le_of_ble_eq_true rfl)) (Nat.le_of_ble_eq_true rfl) rfl (vm_X2_time hp hc8) rfl (rOk.of rfl) ?_
    cases h
    cases (show _ = (d', r) from K)
    exact v_leave F hT (PB.ob (ob_X2_1 hX hp (v := 11)) hX (Nat.le_of_ble_eq_true rfl))
  refine v_callXv (c := 2) F dX2_days_31 cl_X2_272 rfl (PB.ob hp hX (Nat.le_of_ble_eq_true rfl)) (Nat.le_of_ble_eq_true rfl) rfl (vm_X2_time hp hc8) rfl (rOk.of rfl) ?_
  obtain ⟨hi11, h⟩ := ck_some h
  obtain ⟨d12, ed12, h⟩ := sd_some h
  refine v_iast F dX2_days_34 (ar_X4_0 hX x4p) hi11 ?_
  refine v_nD ed12 ?_
  refine v_aload_n F dX2_days_35 rfl rfl ?_
  refine v_iload_n F dX2_days_36 rfl rfl ?_
  refine v_if_eq F dX2_days_37 rfl (fun hq13 => ?_) (fun hq13 => ?_)
  · rw [if_pos hq13] at h
    refine v_iconst F dX2_days_63 ⟨by decide, by decide⟩ ?_
    refine v_goto F dX2_days_64 rfl ?_
    exact fX2_days_68_ok F hX hT hp h K
  · rw [if_neg hq13] at h
    refine v_aload_n F dX2_days_40 rfl rfl ?_
    obtain ⟨x17, ex17, h⟩ := lv_some h
    obtain ⟨hn19, h⟩ := ck_some h
    refine gf_X2_263 F dX2_days_41 hp ex17 fun hr18 => ?_
    have x17p := hr18.resolve_left hn19
    refine gf_X2_267 F dX2_days_44 x17p (v := (x17 + 1)) rfl ?_
    refine v_iload_n F dX2_days_47 rfl rfl ?_
    refine v_iald F dX2_days_48 (ar_X4_0 hX x17p) hi11 ?_
    refine v_aload_n F dX2_days_49 rfl rfl ?_
    obtain ⟨x20, ex20, h⟩ := lv_some h
    obtain ⟨hn22, h⟩ := ck_some h
    refine gf_X2_263 F dX2_days_50 hp ex20 fun hr21 => ?_
    have x20p := hr21.resolve_left hn22
    refine gf_X2_267 F dX2_days_53 x20p (v := (x20 + 1)) rfl ?_
    refine v_iload_n F dX2_days_56 rfl rfl ?_
    refine v_iconst F dX2_days_57 ⟨by decide, by decide⟩ ?_
    refine v_isub F dX2_days_58 ?_
    obtain ⟨x23, ex23, h⟩ := lv_some h
    refine v_nI ex23 ?_
    obtain ⟨hi24, h⟩ := ck_some h
    refine v_iald F dX2_days_59 (ar_X4_0 hX x20p) hi24 ?_
    refine v_icmp_lt F dX2_days_60 rfl (fun hq25 => ?_) (fun hq25 => ?_)
    · rw [if_pos hq25] at h
      refine v_iconst F dX2_days_67 ⟨by decide, by decide⟩ ?_
      exact fX2_days_68_ok F hX hT hp h K
    · rw [if_neg hq25] at h
      refine v_iconst F dX2_days_63 ⟨by decide, by decide⟩ ?_
      refine v_goto F dX2_days_64 rfl ?_
      exact fX2_days_68_ok F hX hT hp h K
theorem fX2_days_2f_ok {w : Wd} {l : Launch} {G : Cx} {m dd : Dt} {d' : Dt} {r : Option Int} {s : Dt × Int} {x : ((Dt × Int) ⊕ (Dt × Option Int))} (F : Fx w G cX2_days RX2 3 none { frames := 11, cells := 0, slots := 0, locals := 242 }) (hX : WF dd m) (hT : NoT G) (hp : PB m 10 2) (h : fX2_days_2f s = some x) (K : (Sum.elim (fX2_days_2P w l G (QX w G WF (r.map fun _ => none) d' m) m) (fun q => q = (d', r))) x) : V w l WF G (QX w G WF (r.map fun _ => none) d' m) s.1 m 0 0 2 [mA 10, mI (s.2), mU] [] := by
  obtain ⟨d, v1⟩ := s
  unfold fX2_days_2f at h
  dsimp only at h
  refine v_iload_n F dX2_days_2 rfl rfl ?_
  refine v_iconst F dX2_days_3 ⟨by decide, by decide⟩ ?_
  refine v_icmp_ge F dX2_days_4 rfl (fun hq1 => ?_) (fun hq1 => ?_)
  · rw [if_pos hq1] at h
    obtain ⟨z, hu, ez⟩ := up_some h
    clear h
    subst ez
    have h := hu
    clear hu
    cases h
    cases (show _ = (d', r) from K)
    refine v_xret ?_
    exact v_vret F dX2_days_78
  · rw [if_neg hq1] at h
    refine v_iload_n F dX2_days_7 rfl rfl ?_
    refine v_if_le F dX2_days_8 rfl (fun hq2 => ?_) (fun hq2 => ?_)
    · rw [if_pos hq2] at h
      exact fX2_days_17_ok F hX hT hp h K
    · rw [if_neg hq2] at h
      refine v_aload_n F dX2_days_11 rfl rfl ?_
      refine v_bipush F dX2_days_12 rfl ⟨by decide, by decide⟩ ?_
      obtain ⟨d26, x28o, hc27, ho29⟩ := bx_some h
      clear h
      rcases ho29 with ⟨rfl, h⟩ | ⟨x28, rfl, h⟩
      · refine v_callXt (c := 2) F dX2_days_14 cl_X2_244 rfl (PB.ob hp hX (Nat.le_of_ble_eq_true rfl)) (Nat.le_of_ble_eq_true rfl) rfl (vm_X2_sign hp hc27) rfl (rOk.of rfl) ?_
        cases h
        cases (show _ = (d', r) from K)
        exact v_leave F hT (PB.ob (ob_X2_1 hX hp (v := 11)) hX (Nat.le_of_ble_eq_true rfl))
      refine v_callX0 (c := 2) F dX2_days_14 cl_X2_244 rfl (PB.ob hp hX (Nat.le_of_ble_eq_true rfl)) (Nat.le_of_ble_eq_true rfl) rfl (vm_X2_sign hp hc27) rfl (rOk.of rfl) ?_
      exact fX2_days_17_ok F hX hT hp h K
theorem fX2_days_2_ok {w : Wd} {l : Launch} {G : Cx} {d m dd : Dt} {v1 : Int} {d' : Dt} {r : Option Int} {x : (Dt × Option Int)} (F : Fx w G cX2_days RX2 3 none { frames := 11, cells := 0, slots := 0, locals := 242 }) (hX : WF dd m) (hT : NoT G) (hp : PB m 10 2) (h : fX2_days_2 d v1 = some x) (K : (fun q => q = (d', r)) x) : V w l WF G (QX w G WF (r.map fun _ => none) d' m) d m 0 0 2 [mA 10, mI v1, mU] [] := by
  unfold fX2_days_2 at h
  exact loop_ok (P := fX2_days_2P w l G (QX w G WF (r.map fun _ => none) d' m) m) (fun s x hx h1 h2 => fX2_days_2f_ok F hX hT hp hx (by
    cases x with
    | inl s' => exact h1 s' rfl
    | inr z => cases h2 z rfl; exact K)) h
theorem vm_X2_days {w : Wd} {l : Launch} {d m : Dt} {d' : Dt} {r : Option Int} (hp : PB m 10 2) (h : fX2_days d = some (d', r)) : VMX w l WF yX2_days cX2_days 3 none 11 242 d m [mA 10] (r.map fun _ => none) d' m := by
  obtain ⟨x, h, K⟩ : ∃ x, fX2_days d = some x ∧ x = (d', r) := ⟨_, h, rfl⟩
  refine VMX.of (L := [mA 10, mU, mU]) (by decide +kernel) rfl (Nat.le_of_ble_eq_true rfl) fun G F hT => v_fact fun _ hX _ _ => ?_
  unfold fX2_days at h
  refine v_iconst F dX2_days_0 ⟨by decide, by decide⟩ ?_
  refine v_istore_n F dX2_days_1 rfl (Nat.le_of_ble_eq_true rfl) (L' := [mA 10, mI 0, mU]) rfl ?_
  exact fX2_days_2_ok F hX hT hp h K
theorem vm_X2_push {w : Wd} {l : Launch} {d m : Dt} {a1 : Int} {d' : Dt} (hp : PB m 10 2) (h : fX2_push d a1 = some d') : VM w l WF yX2_push cX2_push 2 none 0 0 0 0 d m [mA 10, mI a1] none d' m := by
  obtain ⟨x, h, K⟩ : ∃ x, fX2_push d a1 = some x ∧ x = d' := ⟨_, h, rfl⟩
  refine VM.of (L := [mA 10, mI a1]) (by decide +kernel) rfl (Nat.le_of_ble_eq_true rfl) fun G F _ => v_fact fun _ hX _ _ => ?_
  unfold fX2_push at h
  refine v_aload_n F dX2_push_0 rfl rfl ?_
  refine gf_X2_22 F dX2_push_1 hp (v := 13) rfl ?_
  refine v_aload_n F dX2_push_4 rfl rfl ?_
  refine gf_X2_311 F dX2_push_5 hp ?_
  refine v_iload_n F dX2_push_8 rfl rfl ?_
  obtain ⟨x1, ex1, h⟩ := lv_some h
  refine v_n2 ex1 ?_
  obtain ⟨hi2, h⟩ := ck_some h
  obtain ⟨d3, ed3, h⟩ := sd_some h
  refine v_iast F dX2_push_9 (ar_X2_14 hX hp) hi2 ?_
  refine v_nD ed3 ?_
  refine v_aload_n F dX2_push_10 rfl rfl ?_
  refine v_dup_A F dX2_push_11 ?_
  refine gf_X2_311 F dX2_push_12 hp ?_
  refine v_iconst F dX2_push_15 ⟨by decide, by decide⟩ ?_
  refine v_iadd F dX2_push_16 ?_
  obtain ⟨d4, ed4, h⟩ := sd_some h
  refine pf_X2_311 F dX2_push_17 hp ?_
  refine v_nD ed4 ?_
  cases h
  cases (show _ = d' from K)
  exact v_vret F dX2_push_20
theorem vm_X2_isTest {w : Wd} {l : Launch} {d m : Dt} (hp : PB m 10 2) : VM w l WF yX2_isTest cX2_isTest 1 (some .boolean) 1 22 0 0 d m [mA 10] (some (mI (fX2_isTest d))) d m := by
  obtain ⟨r, hr⟩ : ∃ r, fX2_isTest d = r := ⟨_, rfl⟩
  rw [hr]
  obtain ⟨x, h, K⟩ : ∃ x, fX2_isTest d = x ∧ x = r := ⟨_, hr, rfl⟩
  refine VM.of (L := [mA 10]) (by decide +kernel) rfl (Nat.le_of_ble_eq_true rfl) fun G F _ => v_fact fun _ hX _ _ => ?_
  unfold fX2_isTest at h
  refine v_aload_n F dX2_isTest_0 rfl rfl ?_
  refine gf_X2_193 F dX2_isTest_1 hp ?_
  refine v_iconst F dX2_isTest_4 ⟨by decide, by decide⟩ ?_
  refine v_icmp_ne F dX2_isTest_5 rfl (fun hq1 => ?_) (fun hq1 => ?_)
  · rw [if_neg hq1] at h
    refine v_iconst F dX2_isTest_35 ⟨by decide, by decide⟩ ?_
    subst h
    cases (show _ = r from K)
    exact v_zret F (Or.inl rfl) dX2_isTest_36
  · rw [if_pos hq1] at h
    refine v_aload_n F dX2_isTest_8 rfl rfl ?_
    refine gf_X2_182 F dX2_isTest_9 hp ?_
    refine v_bipush F dX2_isTest_12 rfl ⟨by decide, by decide⟩ ?_
    refine v_bipush F dX2_isTest_14 rfl ⟨by decide, by decide⟩ ?_
    refine v_callSv F dX2_isTest_16 cs_X2_163 rfl (vm_X0_within) rfl (rOk.of rfl) ?_
    refine v_if_ne F dX2_isTest_19 rfl (fun hq2 => ?_) (fun hq2 => ?_)
    · rw [if_neg hq2] at h
      refine v_iconst F dX2_isTest_31 ⟨by decide, by decide⟩ ?_
      refine v_goto F dX2_isTest_32 rfl ?_
      subst h
      cases (show _ = r from K)
      exact v_zret F (Or.inr rfl) dX2_isTest_36
    · rw [if_pos hq2] at h
      refine v_aload_n F dX2_isTest_22 rfl rfl ?_
      refine gf_X2_182 F dX2_isTest_23 hp ?_
      refine v_bipush F dX2_isTest_26 rfl ⟨by decide, by decide⟩ ?_
      refine v_icmp_ne F dX2_isTest_28 rfl (fun hq3 => ?_) (fun hq3 => ?_)
      · rw [if_neg hq3] at h
        refine v_iconst F dX2_isTest_35 ⟨by decide, by decide⟩ ?_
        subst h
        cases (show _ = r from K)
        exact v_zret F (Or.inl rfl) dX2_isTest_36
      · rw [if_pos hq3] at h
        refine v_iconst F dX2_isTest_31 ⟨by decide, by decide⟩ ?_
        refine v_goto F dX2_isTest_32 rfl ?_
        subst h
        cases (show _ = r from K)
        exact v_zret F (Or.inr rfl) dX2_isTest_36
theorem fX2_isTest_z {d : Dt} : fX2_isTest d = 0 ∨ fX2_isTest d = 1 := by
  unfold fX2_isTest
  repeat' (first | exact Or.inl rfl | exact Or.inr rfl | split | assumption | exact fX0_within_z)
theorem vm_X5_put {w : Wd} {l : Launch} {d m : Dt} {o a1 : Int} {d' : Dt} (hp : PB m o 5) (h : fX5_put d o a1 = some d') : VM w l WF yX5_put cX5_put 2 none 0 0 0 0 d m [mA o, mI a1] none d' m := by
  obtain ⟨x, h, K⟩ : ∃ x, fX5_put d o a1 = some x ∧ x = d' := ⟨_, h, rfl⟩
  refine VM.of (L := [mA o, mI a1]) (by decide +kernel) rfl (Nat.le_of_ble_eq_true rfl) fun G F _ => v_fact fun _ hX _ _ => ?_
  unfold fX5_put at h
  refine v_aload_n F dX5_put_0 rfl rfl ?_
  refine gf_X5_9 F dX5_put_1 hp (v := (o + 1)) rfl ?_
  refine v_aload_n F dX5_put_4 rfl rfl ?_
  refine gf_X5_15 F dX5_put_5 hp ?_
  refine v_iload_n F dX5_put_8 rfl rfl ?_
  obtain ⟨x1, ex1, h⟩ := lv_some h
  refine v_n2 ex1 ?_
  obtain ⟨hi2, h⟩ := ck_some h
  obtain ⟨d3, ed3, h⟩ := sd_some h
  refine v_iast F dX5_put_9 (ar_X5_0 hX hp) hi2 ?_
  refine v_nD ed3 ?_
  refine v_aload_n F dX5_put_10 rfl rfl ?_
  refine v_dup_A F dX5_put_11 ?_
  refine gf_X5_15 F dX5_put_12 hp ?_
  refine v_iconst F dX5_put_15 ⟨by decide, by decide⟩ ?_
  refine v_iadd F dX5_put_16 ?_
  obtain ⟨d4, ed4, h⟩ := sd_some h
  refine pf_X5_15 F dX5_put_17 hp ?_
  refine v_nD ed4 ?_
  cases h
  cases (show _ = d' from K)
  exact v_vret F dX5_put_20
theorem fX2_test_112_ok {w : Wd} {l : Launch} {G : Cx} {d m dd : Dt} {a1 v2 v3 v4 v5 s1 : Int} {d' : Dt} {r : Option Int} {x : (Dt × Option Int)} (F : Fx w G cX2_test RX2 6 none { frames := 11, cells := 0, slots := 0, locals := 242 }) (hX : WF dd m) (hT : NoT G) (hp : PB m 10 2) (hp1 : PB m a1 5) (h : fX2_test_112 d a1 v2 v3 v4 v5 s1 = some x) (K : (fun q => q = (d', r)) x) : V w l WF G (QX w G WF (r.map fun _ => none) d' m) d m 0 0 112 [mA 10, mA a1, mI v2, mI v3, mI v4, mI v5] [mI s1, mA 10] := by
  unfold fX2_test_112 at h
  refine v_iload_n F dX2_test_112 rfl rfl ?_
  obtain ⟨d14, hc15, h⟩ := bd_some h
  refine v_callV0 (c := 2) F dX2_test_113 cv_X2_215 rfl (PB.ob hp hX (Nat.le_of_ble_eq_true rfl)) (Nat.le_of_ble_eq_true rfl) rfl (vm_X2_note hp hc15) rfl (rOk.of rfl) ?_
  refine v_aload_n F dX2_test_116 rfl rfl ?_
  refine gf_X2_280 F dX2_test_117 hp ?_
  refine v_bipush F dX2_test_120 rfl ⟨by decide, by decide⟩ ?_
  refine v_icmp_ge F dX2_test_122 rfl (fun hq16 => ?_) (fun hq16 => ?_)
  · rw [if_pos hq16] at h
    cases h
    cases (show _ = (d', r) from K)
    refine v_xret ?_
    exact v_vret F dX2_test_221
  · rw [if_neg hq16] at h
    refine v_aload_n F dX2_test_125 rfl rfl ?_
    obtain ⟨x17, ex17, h⟩ := lv_some h
    obtain ⟨hn19, h⟩ := ck_some h
    refine gf_X2_263 F dX2_test_126 hp ex17 fun hr18 => ?_
    have x17p := hr18.resolve_left hn19
    refine gf_X2_283 F dX2_test_129 x17p (v := (x17 + 6)) rfl ?_
    refine v_aload_n F dX2_test_132 rfl rfl ?_
    refine gf_X2_280 F dX2_test_133 hp ?_
    refine v_iload_n F dX2_test_136 rfl rfl ?_
    obtain ⟨x20, ex20, h⟩ := lv_some h
    refine v_n2 ex20 ?_
    obtain ⟨hi21, h⟩ := ck_some h
    obtain ⟨d22, ed22, h⟩ := sd_some h
    refine v_iast F dX2_test_137 (ar_X4_8 hX x17p) hi21 ?_
    refine v_nD ed22 ?_
    refine v_aload_n F dX2_test_138 rfl rfl ?_
    obtain ⟨x23, ex23, h⟩ := lv_some h
    obtain ⟨hn25, h⟩ := ck_some h
    refine gf_X2_263 F dX2_test_139 hp ex23 fun hr24 => ?_
    have x23p := hr24.resolve_left hn25
    refine gf_X2_286 F dX2_test_142 x23p (v := (x23 + 7)) rfl ?_
    refine v_aload_n F dX2_test_145 rfl rfl ?_
    refine gf_X2_280 F dX2_test_146 hp ?_
    refine v_iload F dX2_test_149 rfl ?_
    obtain ⟨x26, ex26, h⟩ := lv_some h
    refine v_n2 ex26 ?_
    obtain ⟨hi27, h⟩ := ck_some h
    obtain ⟨d28, ed28, h⟩ := sd_some h
    refine v_iast F dX2_test_151 (ar_X4_9 hX x23p) hi27 ?_
    refine v_nD ed28 ?_
    refine v_aload_n F dX2_test_152 rfl rfl ?_
    obtain ⟨x29, ex29, h⟩ := lv_some h
    obtain ⟨hn31, h⟩ := ck_some h
    refine gf_X2_263 F dX2_test_153 hp ex29 fun hr30 => ?_
    have x29p := hr30.resolve_left hn31
    refine gf_X2_288 F dX2_test_156 x29p (v := (x29 + 8)) rfl ?_
    refine v_aload_n F dX2_test_159 rfl rfl ?_
    refine gf_X2_280 F dX2_test_160 hp ?_
    refine v_iload F dX2_test_163 rfl ?_
    obtain ⟨x32, ex32, h⟩ := lv_some h
    refine v_n2 ex32 ?_
    obtain ⟨hi33, h⟩ := ck_some h
    obtain ⟨d34, ed34, h⟩ := sd_some h
    refine v_iast F dX2_test_165 (ar_X4_10 hX x29p) hi33 ?_
    refine v_nD ed34 ?_
    refine v_aload_n F dX2_test_166 rfl rfl ?_
    obtain ⟨x35, ex35, h⟩ := lv_some h
    obtain ⟨hn37, h⟩ := ck_some h
    refine gf_X2_263 F dX2_test_167 hp ex35 fun hr36 => ?_
    have x35p := hr36.resolve_left hn37
    refine gf_X2_291 F dX2_test_170 x35p (v := (x35 + 9)) rfl ?_
    refine v_aload_n F dX2_test_173 rfl rfl ?_
    refine gf_X2_280 F dX2_test_174 hp ?_
    refine v_iload_n F dX2_test_177 rfl rfl ?_
    obtain ⟨x38, ex38, h⟩ := lv_some h
    refine v_n2 ex38 ?_
    obtain ⟨hi39, h⟩ := ck_some h
    obtain ⟨d40, ed40, h⟩ := sd_some h
    refine v_iast F dX2_test_178 (ar_X4_11 hX x35p) hi39 ?_
    refine v_nD ed40 ?_
    refine v_aload_n F dX2_test_179 rfl rfl ?_
    obtain ⟨x41, ex41, h⟩ := lv_some h
    obtain ⟨hn43, h⟩ := ck_some h
    refine gf_X2_263 F dX2_test_180 hp ex41 fun hr42 => ?_
    have x41p := hr42.resolve_left hn43
    refine gf_X2_293 F dX2_test_183 x41p (v := (x41 + 10)) rfl ?_
    refine v_aload_n F dX2_test_186 rfl rfl ?_
    refine gf_X2_280 F dX2_test_187 hp ?_
    refine v_aload_n F dX2_test_190 rfl rfl ?_
    refine gf_X2_296 F dX2_test_191 hp ?_
    obtain ⟨x44, ex44, h⟩ := lv_some h
    refine v_n2 ex44 ?_
    obtain ⟨hi45, h⟩ := ck_some h
    obtain ⟨d46, ed46, h⟩ := sd_some h
    refine v_zast F dX2_test_194 (ar_X4_12 hX x41p) hi45 ?_
    refine v_nD ed46 ?_
    refine v_aload_n F dX2_test_195 rfl rfl ?_
    refine v_aload_n F dX2_test_196 rfl rfl ?_
    refine gf_X2_280 F dX2_test_197 hp ?_
    obtain ⟨d47, hc48, h⟩ := bd_some h
    refine v_callV0 (c := 5) F dX2_test_200 cv_X2_299 rfl (PB.ob hp1 hX (Nat.le_of_ble_eq_true rfl)) (Nat.le_of_ble_eq_true rfl) rfl (vm_X5_put hp1 hc48) rfl (rOk.of rfl) ?_
    refine v_aload_n F dX2_test_203 rfl rfl ?_
    refine v_dup_A F dX2_test_204 ?_
    refine gf_X2_280 F dX2_test_205 hp ?_
    refine v_iconst F dX2_test_208 ⟨by decide, by decide⟩ ?_
    refine v_iadd F dX2_test_209 ?_
    obtain ⟨d49, ed49, h⟩ := sd_some h
    refine pf_X2_280 F dX2_test_210 hp ?_
    refine v_nD ed49 ?_
    refine v_aload_n F dX2_test_213 rfl rfl ?_
    refine v_aload_n F dX2_test_214 rfl rfl ?_
    refine gf_X2_280 F dX2_test_215 hp ?_
    obtain ⟨d50, ed50, h⟩ := sd_some h
    refine pf_X2_304 F dX2_test_218 hp1 ?_
    refine v_nD ed50 ?_
    cases h
    cases (show _ = (d', r) from K)
    refine v_xret ?_
    exact v_vret F dX2_test_221
theorem fX2_test_97_ok {w : Wd} {l : Launch} {G : Cx} {d m dd : Dt} {a1 v2 v3 v4 v5 : Int} {d' : Dt} {r : Option Int} {x : (Dt × Option Int)} (F : Fx w G cX2_test RX2 6 none { frames := 11, cells := 0, slots := 0, locals := 242 }) (hX : WF dd m) (hT : NoT G) (hp : PB m 10 2) (hp1 : PB m a1 5) (h : fX2_test_97 d a1 v2 v3 v4 v5 = some x) (K : (fun q => q = (d', r)) x) : V w l WF G (QX w G WF (r.map fun _ => none) d' m) d m 0 0 97 [mA 10, mA a1, mI v2, mI v3, mI v4, mI v5] [] := by
  unfold fX2_test_97 at h
  refine v_aload_n F dX2_test_97 rfl rfl ?_
  refine v_aload_n F dX2_test_98 rfl rfl ?_
  refine gf_X2_280 F dX2_test_99 hp ?_
  refine v_bipush F dX2_test_102 rfl ⟨by decide, by decide⟩ ?_
  refine v_icmp_ge F dX2_test_104 rfl (fun hq13 => ?_) (fun hq13 => ?_)
  · rw [if_pos hq13] at h
    refine v_iconst F dX2_test_111 ⟨by decide, by decide⟩ ?_
    exact fX2_test_112_ok F hX hT hp hp1 h K
  · rw [if_neg hq13] at h
    refine v_iconst F dX2_test_107 ⟨by decide, by decide⟩ ?_
    refine v_goto F dX2_test_108 rfl ?_
    exact fX2_test_112_ok F hX hT hp hp1 h K
theorem fX2_test_75_ok {w : Wd} {l : Launch} {G : Cx} {d m dd : Dt} {a1 v2 v3 v4 : Int} {d' : Dt} {r : Option Int} {x : (Dt × Option Int)} (F : Fx w G cX2_test RX2 6 none { frames := 11, cells := 0, slots := 0, locals := 242 }) (hX : WF dd m) (hT : NoT G) (hp : PB m 10 2) (hp1 : PB m a1 5) (h : fX2_test_75 d a1 v2 v3 v4 = some x) (K : (fun q => q = (d', r)) x) : V w l WF G (QX w G WF (r.map fun _ => none) d' m) d m 0 0 75 [mA 10, mA a1, mI v2, mI v3, mI v4, mU] [] := by
  unfold fX2_test_75 at h
  refine v_iconst F dX2_test_75 ⟨by decide, by decide⟩ ?_
  refine v_istore F dX2_test_76 (Nat.le_of_ble_eq_true rfl) (L' := [mA 10, mA a1, mI v2, mI v3, mI v4, mI (-1)]) rfl ?_
  refine v_aload_n F dX2_test_78 rfl rfl ?_
  refine v_bipush F dX2_test_79 rfl ⟨by decide, by decide⟩ ?_
  refine v_callVv (c := 2) F dX2_test_81 cv_X2_202 rfl (PB.ob hp hX (Nat.le_of_ble_eq_true rfl)) (Nat.le_of_ble_eq_true rfl) rfl (vm_X2_isWordHere hp) rfl (rOk.of rfl) ?_
  refine v_if_eq F dX2_test_84 rfl (fun hq12 => ?_) (fun hq12 => ?_)
  · rw [if_pos hq12] at h
    exact fX2_test_97_ok F hX hT hp hp1 h K
  · rw [if_neg hq12] at h
    refine v_aload_n F dX2_test_87 rfl rfl ?_
    obtain ⟨d51, hc52, h⟩ := bd_some h
    refine v_callV0 (c := 2) F dX2_test_88 cv_X2_209 rfl (PB.ob hp hX (Nat.le_of_ble_eq_true rfl)) (Nat.le_of_ble_eq_true rfl) rfl (vm_X2_take hp hc52) rfl (rOk.of rfl) ?_
    refine v_aload_n F dX2_test_91 rfl rfl ?_
    obtain ⟨d53, x55o, hc54, ho56⟩ := bx_some h
    clear h
    rcases ho56 with ⟨rfl, h⟩ | ⟨x55, rfl, h⟩
    · refine v_callXt (c := 2) F dX2_test_92 cl_X2_272 rfl (PB.ob hp hX (Nat.le_of_ble_eq_true rfl)) (Nat.le_of_ble_eq_true rfl) rfl (vm_X2_time hp hc54) rfl (rOk.of rfl) ?_
      cases h
      cases (show _ = (d', r) from K)
      exact v_leave F hT (PB.ob (ob_X2_1 hX hp (v := 11)) hX (Nat.le_of_ble_eq_true rfl))
    refine v_callXv (c := 2) F dX2_test_92 cl_X2_272 rfl (PB.ob hp hX (Nat.le_of_ble_eq_true rfl)) (Nat.le_of_ble_eq_true rfl) rfl (vm_X2_time hp hc54) rfl (rOk.of rfl) ?_
    refine v_istore F dX2_test_95 (Nat.le_of_ble_eq_true rfl) (L' := [mA 10, mA a1, mI v2, mI v3, mI v4, mI x55]) rfl ?_
    exact fX2_test_97_ok F hX hT hp hp1 h K
theorem vm_X2_test {w : Wd} {l : Launch} {d m : Dt} {a1 : Int} {d' : Dt} {r : Option Int} (hp : PB m 10 2) (hp1 : PB m a1 5) (h : fX2_test d a1 = some (d', r)) : VMX w l WF yX2_test cX2_test 6 none 11 242 d m [mA 10, mA a1] (r.map fun _ => none) d' m := by
  obtain ⟨x, h, K⟩ : ∃ x, fX2_test d a1 = some x ∧ x = (d', r) := ⟨_, h, rfl⟩
  refine VMX.of (L := [mA 10, mA a1, mU, mU, mU, mU]) (by decide +kernel) rfl (Nat.le_of_ble_eq_true rfl) fun G F hT => v_fact fun _ hX _ _ => ?_
  unfold fX2_test at h
  refine v_aload_n F dX2_test_0 rfl rfl ?_
  refine gf_X2_150 F dX2_test_1 hp ?_
  obtain ⟨x1, ex1, h⟩ := lv_some h
  refine v_nI ex1 ?_
  refine v_istore_n F dX2_test_4 rfl (Nat.le_of_ble_eq_true rfl) (L' := [mA 10, mA a1, mI x1, mU, mU, mU]) rfl ?_
  refine v_aload_n F dX2_test_5 rfl rfl ?_
  refine gf_X2_182 F dX2_test_6 hp ?_
  obtain ⟨x2, ex2, h⟩ := lv_some h
  refine v_nI ex2 ?_
  refine v_istore_n F dX2_test_9 rfl (Nat.le_of_ble_eq_true rfl) (L' := [mA 10, mA a1, mI x1, mI x2, mU, mU]) rfl ?_
  refine v_aload_n F dX2_test_10 rfl rfl ?_
  obtain ⟨d3, hc4, h⟩ := bd_some h
  refine v_callV0 (c := 2) F dX2_test_11 cv_X2_209 rfl (PB.ob hp hX (Nat.le_of_ble_eq_true rfl)) (Nat.le_of_ble_eq_true rfl) rfl (vm_X2_take hp hc4) rfl (rOk.of rfl) ?_
  refine v_iconst F dX2_test_14 ⟨by decide, by decide⟩ ?_
  refine v_istore F dX2_test_15 (Nat.le_of_ble_eq_true rfl) (L' := [mA 10, mA a1, mI x1, mI x2, mI 0, mU]) rfl ?_
  refine v_iload_n F dX2_test_17 rfl rfl ?_
  refine v_bipush F dX2_test_18 rfl ⟨by decide, by decide⟩ ?_
  refine v_icmp_ne F dX2_test_20 rfl (fun hq5 => ?_) (fun hq5 => ?_)
  · rw [if_neg hq5] at h
    refine v_iload_n F dX2_test_32 rfl rfl ?_
    refine v_bipush F dX2_test_33 rfl ⟨by decide, by decide⟩ ?_
    refine v_icmp_ne F dX2_test_35 rfl (fun hq6 => ?_) (fun hq6 => ?_)
    · rw [if_neg hq6] at h
      refine v_iload_n F dX2_test_49 rfl rfl ?_
      refine v_bipush F dX2_test_50 rfl ⟨by decide, by decide⟩ ?_
      refine v_icmp_ne F dX2_test_52 rfl (fun hq7 => ?_) (fun hq7 => ?_)
      · rw [if_neg hq7] at h
        refine v_aload_n F dX2_test_66 rfl rfl ?_
        refine v_iconst F dX2_test_67 ⟨by decide, by decide⟩ ?_
        refine v_bipush F dX2_test_68 rfl ⟨by decide, by decide⟩ ?_
        obtain ⟨d8, x10o, hc9, ho11⟩ := bx_some h
        clear h
        rcases ho11 with ⟨rfl, h⟩ | ⟨x10, rfl, h⟩
        · refine v_callXt (c := 2) F dX2_test_70 cl_X2_278 rfl (PB.ob hp hX (Nat.le_of_ble_eq_true rfl)) (Nat.le_of_ble_eq_true rfl) rfl (vm_X2_number_2 hp hc9) rfl (rOk.of rfl) ?_
          cases h
          cases (show _ = (d', r) from K)
          exact v_leave F hT (PB.ob (ob_X2_1 hX hp (v := 11)) hX (Nat.le_of_ble_eq_true rfl))
        refine v_callXv (c := 2) F dX2_test_70 cl_X2_278 rfl (PB.ob hp hX (Nat.le_of_ble_eq_true rfl)) (Nat.le_of_ble_eq_true rfl) rfl (vm_X2_number_2 hp hc9) rfl (rOk.of rfl) ?_
        refine v_istore F dX2_test_73 (Nat.le_of_ble_eq_true rfl) (L' := [mA 10, mA a1, mI x1, mI x2, mI x10, mU]) rfl ?_
        exact fX2_test_75_ok F hX hT hp hp1 h K
      · rw [if_pos hq7] at h
        refine v_aload_n F dX2_test_55 rfl rfl ?_
        refine v_iconst F dX2_test_56 ⟨by decide, by decide⟩ ?_
        refine v_sipush F dX2_test_57 rfl ⟨by decide, by decide⟩ ?_
        obtain ⟨d57, x59o, hc58, ho60⟩ := bx_some h
        clear h
        rcases ho60 with ⟨rfl, h⟩ | ⟨x59, rfl, h⟩
        · refine v_callXt (c := 2) F dX2_test_60 cl_X2_278 rfl (PB.ob hp hX (Nat.le_of_ble_eq_true rfl)) (Nat.le_of_ble_eq_true rfl) rfl (vm_X2_number_2 hp hc58) rfl (rOk.of rfl) ?_
          cases h
          cases (show _ = (d', r) from K)
          exact v_leave F hT (PB.ob (ob_X2_1 hX hp (v := 11)) hX (Nat.le_of_ble_eq_true rfl))
        refine v_callXv (c := 2) F dX2_test_60 cl_X2_278 rfl (PB.ob hp hX (Nat.le_of_ble_eq_true rfl)) (Nat.le_of_ble_eq_true rfl) rfl (vm_X2_number_2 hp hc58) rfl (rOk.of rfl) ?_
        refine v_goto F dX2_test_63 rfl ?_
        refine v_istore F dX2_test_73 (Nat.le_of_ble_eq_true rfl) (L' := [mA 10, mA a1, mI x1, mI x2, mI x59, mU]) rfl ?_
        exact fX2_test_75_ok F hX hT hp hp1 h K
    · rw [if_pos hq6] at h
      refine v_aload_n F dX2_test_38 rfl rfl ?_
      refine v_iconst F dX2_test_39 ⟨by decide, by decide⟩ ?_
      refine v_sipush F dX2_test_40 rfl ⟨by decide, by decide⟩ ?_
      obtain ⟨d61, x63o, hc62, ho64⟩ := bx_some h
      clear h
      rcases ho64 with ⟨rfl, h⟩ | ⟨x63, rfl, h⟩
      · refine v_callXt (c := 2) F dX2_test_43 cl_X2_278 rfl (PB.ob hp hX (Nat.le_of_ble_eq_true rfl)) (Nat.le_of_ble_eq_true rfl) rfl (vm_X2_number_2 hp hc62) rfl (rOk.of rfl) ?_
        cases h
        cases (show _ = (d', r) from K)
        exact v_leave F hT (PB.ob (ob_X2_1 hX hp (v := 11)) hX (Nat.le_of_ble_eq_true rfl))
      refine v_callXv (c := 2) F dX2_test_43 cl_X2_278 rfl (PB.ob hp hX (Nat.le_of_ble_eq_true rfl)) (Nat.le_of_ble_eq_true rfl) rfl (vm_X2_number_2 hp hc62) rfl (rOk.of rfl) ?_
      refine v_goto F dX2_test_46 rfl ?_
      refine v_istore F dX2_test_73 (Nat.le_of_ble_eq_true rfl) (L' := [mA 10, mA a1, mI x1, mI x2, mI x63, mU]) rfl ?_
      exact fX2_test_75_ok F hX hT hp hp1 h K
  · rw [if_pos hq5] at h
    refine v_aload_n F dX2_test_23 rfl rfl ?_
    obtain ⟨d65, x67o, hc66, ho68⟩ := bx_some h
    clear h
    rcases ho68 with ⟨rfl, h⟩ | ⟨x67, rfl, h⟩
    · refine v_callXt (c := 2) F dX2_test_24 cl_X2_275 rfl (PB.ob hp hX (Nat.le_of_ble_eq_true rfl)) (Nat.le_of_ble_eq_true rfl) rfl (vm_X2_area hp hc66) rfl (rOk.of rfl) ?_
      cases h
      cases (show _ = (d', r) from K)
      exact v_leave F hT (PB.ob (ob_X2_1 hX hp (v := 11)) hX (Nat.le_of_ble_eq_true rfl))
    refine v_callXv (c := 2) F dX2_test_24 cl_X2_275 rfl (PB.ob hp hX (Nat.le_of_ble_eq_true rfl)) (Nat.le_of_ble_eq_true rfl) rfl (vm_X2_area hp hc66) rfl (rOk.of rfl) ?_
    refine v_istore F dX2_test_27 (Nat.le_of_ble_eq_true rfl) (L' := [mA 10, mA a1, mI x1, mI x2, mI x67, mU]) rfl ?_
    refine v_goto F dX2_test_29 rfl ?_
    exact fX2_test_75_ok F hX hT hp hp1 h K
theorem vm_X2_isTop {w : Wd} {l : Launch} {d m : Dt} {a1 : Int} {r : Int} (hp : PB m 10 2) (h : fX2_isTop d a1 = some r) : VM w l WF yX2_isTop cX2_isTop 2 (some .boolean) 0 0 0 0 d m [mA 10, mI a1] (some (mI r)) d m := by
  obtain ⟨x, h, K⟩ : ∃ x, fX2_isTop d a1 = some x ∧ x = r := ⟨_, h, rfl⟩
  refine VM.of (L := [mA 10, mI a1]) (by decide +kernel) rfl (Nat.le_of_ble_eq_true rfl) fun G F _ => v_fact fun _ hX _ _ => ?_
  unfold fX2_isTop at h
  refine v_aload_n F dX2_isTop_0 rfl rfl ?_
  refine gf_X2_311 F dX2_isTop_1 hp ?_
  refine v_if_le F dX2_isTop_4 rfl (fun hq1 => ?_) (fun hq1 => ?_)
  · rw [if_pos hq1] at h
    refine v_iconst F dX2_isTop_26 ⟨by decide, by decide⟩ ?_
    cases h
    cases (show _ = r from K)
    exact v_zret F (Or.inl rfl) dX2_isTop_27
  · rw [if_neg hq1] at h
    refine v_aload_n F dX2_isTop_7 rfl rfl ?_
    refine gf_X2_22 F dX2_isTop_8 hp (v := 13) rfl ?_
    refine v_aload_n F dX2_isTop_11 rfl rfl ?_
    refine gf_X2_311 F dX2_isTop_12 hp ?_
    refine v_iconst F dX2_isTop_15 ⟨by decide, by decide⟩ ?_
    refine v_isub F dX2_isTop_16 ?_
    obtain ⟨x2, ex2, h⟩ := lv_some h
    refine v_nI ex2 ?_
    obtain ⟨hi3, h⟩ := ck_some h
    refine v_iald F dX2_isTop_17 (ar_X2_14 hX hp) hi3 ?_
    refine v_iload_n F dX2_isTop_18 rfl rfl ?_
    refine v_icmp_ne F dX2_isTop_19 rfl (fun hq4 => ?_) (fun hq4 => ?_)
    · rw [if_neg hq4] at h
      refine v_iconst F dX2_isTop_26 ⟨by decide, by decide⟩ ?_
      cases h
      cases (show _ = r from K)
      exact v_zret F (Or.inl rfl) dX2_isTop_27
    · rw [if_pos hq4] at h
      refine v_iconst F dX2_isTop_22 ⟨by decide, by decide⟩ ?_
      refine v_goto F dX2_isTop_23 rfl ?_
      cases h
      cases (show _ = r from K)
      exact v_zret F (Or.inr rfl) dX2_isTop_27
theorem fX2_pop_42_ok {w : Wd} {l : Launch} {G : Cx} {d m dd : Dt} {a1 s1 s2 : Int} {d' : Dt} {x : Dt} (F : Fx w G cX2_pop RX2 3 none { frames := 1, cells := 0, slots := 0, locals := 21 }) (hX : WF dd m) (hp : PB m 10 2) (hp1 : PB m a1 5) (h : fX2_pop_42 d a1 s1 s2 = some x) (K : (fun q => q = d') x) : V w l WF G (QM w G WF none d' m 0 0) d m 0 0 42 [mU, mU, mU] [mI s2, mI s1, mA 10] := by
  unfold fX2_pop_42 at h
  refine v_ixor F dX2_pop_42 ?_
  obtain ⟨x8, ex8, h⟩ := lv_some h
  refine v_nI ex8 ?_
  obtain ⟨hb9, h⟩ := ck_some h
  obtain ⟨d10, ed10, h⟩ := sd_some h
  refine pf_X2_296 F dX2_pop_43 hp hb9 ?_
  refine v_nD ed10 ?_
  cases h
  cases (show _ = d' from K)
  exact v_vret F dX2_pop_46
theorem vm_X2_pop {w : Wd} {l : Launch} {d m : Dt} {a1 : Int} {d' : Dt} (hp : PB m 10 2) (hp1 : PB m a1 5) (h : fX2_pop d a1 = some d') : VM w l WF yX2_pop cX2_pop 3 none 1 21 0 0 d m [mA 10, mA a1] none d' m := by
  obtain ⟨x, h, K⟩ : ∃ x, fX2_pop d a1 = some x ∧ x = d' := ⟨_, h, rfl⟩
  refine VM.of (L := [mA 10, mA a1, mU]) (by decide +kernel) rfl (Nat.le_of_ble_eq_true rfl) fun G F _ => v_fact fun _ hX _ _ => ?_
  unfold fX2_pop at h
  refine v_aload_n F dX2_pop_0 rfl rfl ?_
  refine v_dup_A F dX2_pop_1 ?_
  refine gf_X2_311 F dX2_pop_2 hp ?_
  refine v_iconst F dX2_pop_5 ⟨by decide, by decide⟩ ?_
  refine v_isub F dX2_pop_6 ?_
  obtain ⟨d1, ed1, h⟩ := sd_some h
  refine pf_X2_311 F dX2_pop_7 hp ?_
  refine v_nD ed1 ?_
  refine v_aload_n F dX2_pop_10 rfl rfl ?_
  refine gf_X2_22 F dX2_pop_11 hp (v := 13) rfl ?_
  refine v_aload_n F dX2_pop_14 rfl rfl ?_
  refine gf_X2_311 F dX2_pop_15 hp ?_
  obtain ⟨x2, ex2, h⟩ := lv_some h
  refine v_nI ex2 ?_
  obtain ⟨hi3, h⟩ := ck_some h
  refine v_iald F dX2_pop_18 (ar_X2_14 hX hp) hi3 ?_
  obtain ⟨x4, ex4, h⟩ := lv_some h
  refine v_nI ex4 ?_
  refine v_istore_n F dX2_pop_19 rfl (Nat.le_of_ble_eq_true rfl) (L' := [mA 10, mA a1, mI x4]) rfl ?_
  refine v_aload_n F dX2_pop_20 rfl rfl ?_
  refine v_iload_n F dX2_pop_21 rfl rfl ?_
  obtain ⟨d5, hc6, h⟩ := bd_some h
  refine v_callV0 (c := 5) F dX2_pop_22 cv_X2_299 rfl (PB.ob hp1 hX (Nat.le_of_ble_eq_true rfl)) (Nat.le_of_ble_eq_true rfl) rfl (vm_X5_put hp1 hc6) rfl (rOk.of rfl) ?_
  refine v_aload_n F dX2_pop_25 rfl rfl ?_
  refine v_dup_A F dX2_pop_26 ?_
  refine gf_X2_296 F dX2_pop_27 hp ?_
  refine v_iload_n F dX2_pop_30 rfl rfl ?_
  refine v_sipush F dX2_pop_31 rfl ⟨by decide, by decide⟩ ?_
  refine v_icmp_ne F dX2_pop_34 rfl (fun hq7 => ?_) (fun hq7 => ?_)
  · rw [if_neg hq7] at h
    refine v_iconst F dX2_pop_41 ⟨by decide, by decide⟩ ?_
    refine v_fgt (L' := [mU, mU, mU]) ⟨Or.inr rfl, Or.inr rfl, Or.inr rfl, trivial⟩ ?_
    exact fX2_pop_42_ok F hX hp hp1 h K
  · rw [if_pos hq7] at h
    refine v_iconst F dX2_pop_37 ⟨by decide, by decide⟩ ?_
    refine v_goto F dX2_pop_38 rfl ?_
    refine v_fgt (L' := [mU, mU, mU]) ⟨Or.inr rfl, Or.inr rfl, Or.inr rfl, trivial⟩ ?_
    exact fX2_pop_42_ok F hX hp hp1 h K
def fX2_turns_0P (w : Wd) (l : Launch) (G : Cx) (Q : State → Prop) (m : Dt) (a1 : Int) (s : Dt) : Prop := V w l WF G Q s m 0 0 0 [mA 10, mA a1] []
theorem fX2_turns_0f_ok {w : Wd} {l : Launch} {G : Cx} {m dd : Dt} {a1 : Int} {d' : Dt} {s : Dt} {x : ((Dt) ⊕ Dt)} (F : Fx w G cX2_turns RX2 2 none { frames := 2, cells := 0, slots := 0, locals := 43 }) (hX : WF dd m) (hp : PB m 10 2) (hp1 : PB m a1 5) (h : fX2_turns_0f a1 s = some x) (K : (Sum.elim (fX2_turns_0P w l G (QM w G WF none d' m 0 0) m a1) (fun q => q = d')) x) : V w l WF G (QM w G WF none d' m 0 0) s m 0 0 0 [mA 10, mA a1] [] := by
  obtain ⟨d, rfl⟩ : ∃ z, z = s := ⟨s, rfl⟩
  unfold fX2_turns_0f at h
  dsimp only at h
  refine v_aload_n F dX2_turns_0 rfl rfl ?_
  refine v_sipush F dX2_turns_1 rfl ⟨by decide, by decide⟩ ?_
  obtain ⟨x1, hc2, h⟩ := b1_some h
  refine v_callVv (c := 2) F dX2_turns_4 cv_X2_314 rfl (PB.ob hp hX (Nat.le_of_ble_eq_true rfl)) (Nat.le_of_ble_eq_true rfl) rfl (vm_X2_isTop hp hc2) rfl (rOk.of rfl) ?_
  refine v_if_eq F dX2_turns_7 rfl (fun hq3 => ?_) (fun hq3 => ?_)
  · rw [if_pos hq3] at h
    obtain ⟨z, hu, ez⟩ := up_some h
    clear h
    subst ez
    have h := hu
    clear hu
    cases h
    cases (show _ = d' from K)
    exact v_vret F dX2_turns_18
  · rw [if_neg hq3] at h
    refine v_aload_n F dX2_turns_10 rfl rfl ?_
    refine v_aload_n F dX2_turns_11 rfl rfl ?_
    obtain ⟨d4, hc5, h⟩ := bd_some h
    refine v_callV0 (c := 2) F dX2_turns_12 cv_X2_317 rfl (PB.ob hp hX (Nat.le_of_ble_eq_true rfl)) (Nat.le_of_ble_eq_true rfl) rfl (vm_X2_pop hp hp1 hc5) rfl (rOk.of rfl) ?_
    refine v_goto F dX2_turns_15 rfl ?_
    cases h
    exact K
theorem fX2_turns_0_ok {w : Wd} {l : Launch} {G : Cx} {d m dd : Dt} {a1 : Int} {d' : Dt} {x : Dt} (F : Fx w G cX2_turns RX2 2 none { frames := 2, cells := 0, slots := 0, locals := 43 }) (hX : WF dd m) (hp : PB m 10 2) (hp1 : PB m a1 5) (h : fX2_turns_0 d a1 = some x) (K : (fun q => q = d') x) : V w l WF G (QM w G WF none d' m 0 0) d m 0 0 0 [mA 10, mA a1] [] := by
  unfold fX2_turns_0 at h
  exact loop_ok (P := fX2_turns_0P w l G (QM w G WF none d' m 0 0) m a1) (fun s x hx h1 h2 => fX2_turns_0f_ok F hX hp hp1 hx (by
    cases x with
    | inl s' => exact h1 s' rfl
    | inr z => cases h2 z rfl; exact K)) h
theorem vm_X2_turns {w : Wd} {l : Launch} {d m : Dt} {a1 : Int} {d' : Dt} (hp : PB m 10 2) (hp1 : PB m a1 5) (h : fX2_turns d a1 = some d') : VM w l WF yX2_turns cX2_turns 2 none 2 43 0 0 d m [mA 10, mA a1] none d' m := by
  obtain ⟨x, h, K⟩ : ∃ x, fX2_turns d a1 = some x ∧ x = d' := ⟨_, h, rfl⟩
  refine VM.of (L := [mA 10, mA a1]) (by decide +kernel) rfl (Nat.le_of_ble_eq_true rfl) fun G F _ => v_fact fun _ hX _ _ => ?_
  unfold fX2_turns at h
  exact fX2_turns_0_ok F hX hp hp1 h K
def fX2_operand_2P (w : Wd) (l : Launch) (G : Cx) (Q : State → Prop) (m : Dt) (a1 a2 : Int) (s : Dt × Int) : Prop := V w l WF G Q s.1 m 0 0 2 [mA 10, mA a1, mI a2, mI (s.2), mU] []
theorem fX2_operand_98_ok {w : Wd} {l : Launch} {G : Cx} {d m dd : Dt} {a1 a2 v3 s1 : Int} {d' : Dt} {r : Option Int} {x : ((Dt × Int) ⊕ (Dt × Option Int))} (F : Fx w G cX2_operand RX2 5 (some .int) { frames := 12, cells := 0, slots := 0, locals := 267 }) (hX : WF dd m) (hT : NoT G) (hp : PB m 10 2) (hp1 : PB m a1 5) (h : fX2_operand_98 d a1 a2 v3 s1 = some x) (K : (Sum.elim (fX2_operand_2P w l G (QX w G WF (r.map fun v => some (mI v)) d' m) m a1 a2) (fun q => q = (d', r))) x) : V w l WF G (QX w G WF (r.map fun v => some (mI v)) d' m) d m 0 0 98 [mA 10, mA a1, mI a2, mI v3, mU] [mI s1, mA 10] := by
  unfold fX2_operand_98 at h
  obtain ⟨d12, hc13, h⟩ := bd_some h
  refine v_callV0 (c := 2) F dX2_operand_98 cv_X2_336 rfl (PB.ob hp hX (Nat.le_of_ble_eq_true rfl)) (Nat.le_of_ble_eq_true rfl) rfl (vm_X2_push hp hc13) rfl (rOk.of rfl) ?_
  refine v_aload_n F dX2_operand_101 rfl rfl ?_
  obtain ⟨d14, hc15, h⟩ := bd_some h
  refine v_callV0 (c := 2) F dX2_operand_102 cv_X2_209 rfl (PB.ob hp hX (Nat.le_of_ble_eq_true rfl)) (Nat.le_of_ble_eq_true rfl) rfl (vm_X2_take hp hc15) rfl (rOk.of rfl) ?_
  refine v_goto F dX2_operand_105 rfl ?_
  cases h
  exact K
theorem fX2_operand_78_ok {w : Wd} {l : Launch} {G : Cx} {d m dd : Dt} {a1 a2 v3 v4 s1 : Int} {d' : Dt} {r : Option Int} {x : ((Dt × Int) ⊕ (Dt × Option Int))} (F : Fx w G cX2_operand RX2 5 (some .int) { frames := 12, cells := 0, slots := 0, locals := 267 }) (hX : WF dd m) (hT : NoT G) (hp : PB m 10 2) (hp1 : PB m a1 5) (h : fX2_operand_78 d a1 a2 v3 v4 s1 = some x) (K : (Sum.elim (fX2_operand_2P w l G (QX w G WF (r.map fun v => some (mI v)) d' m) m a1 a2) (fun q => q = (d', r))) x) : V w l WF G (QX w G WF (r.map fun v => some (mI v)) d' m) d m 0 0 78 [mA 10, mA a1, mI a2, mI v3, mI v4] [mI s1, mA 10] := by
  unfold fX2_operand_78 at h
  refine v_aload_n F dX2_operand_78 rfl rfl ?_
  refine gf_X2_150 F dX2_operand_79 hp ?_
  obtain ⟨d9, hc10, h⟩ := bd_some h
  refine v_callV0 (c := 2) F dX2_operand_82 cv_X2_215 rfl (PB.ob hp hX (Nat.le_of_ble_eq_true rfl)) (Nat.le_of_ble_eq_true rfl) rfl (vm_X2_note hp hc10) rfl (rOk.of rfl) ?_
  refine v_aload_n F dX2_operand_85 rfl rfl ?_
  refine v_iload F dX2_operand_86 rfl ?_
  refine v_if_eq F dX2_operand_88 rfl (fun hq11 => ?_) (fun hq11 => ?_)
  · rw [if_pos hq11] at h
    refine v_iconst F dX2_operand_97 ⟨by decide, by decide⟩ ?_
    refine v_fgt (L' := [mA 10, mA a1, mI a2, mI v3, mU]) ⟨Or.inl rfl, Or.inl rfl, Or.inl rfl, Or.inl rfl, Or.inr rfl, trivial⟩ ?_
    exact fX2_operand_98_ok F hX hT hp hp1 h K
  · rw [if_neg hq11] at h
    refine v_sipush F dX2_operand_91 rfl ⟨by decide, by decide⟩ ?_
    refine v_goto F dX2_operand_94 rfl ?_
    refine v_fgt (L' := [mA 10, mA a1, mI a2, mI v3, mU]) ⟨Or.inl rfl, Or.inl rfl, Or.inl rfl, Or.inl rfl, Or.inr rfl, trivial⟩ ?_
    exact fX2_operand_98_ok F hX hT hp hp1 h K
theorem fX2_operand_57_ok {w : Wd} {l : Launch} {G : Cx} {d m dd : Dt} {a1 a2 v4 s0 s1 : Int} {d' : Dt} {r : Option Int} {x : ((Dt × Int) ⊕ (Dt × Option Int))} (F : Fx w G cX2_operand RX2 5 (some .int) { frames := 12, cells := 0, slots := 0, locals := 267 }) (hX : WF dd m) (hT : NoT G) (hp : PB m 10 2) (hp1 : PB m a1 5) (h : fX2_operand_57 d a1 a2 v4 s0 s1 = some x) (K : (Sum.elim (fX2_operand_2P w l G (QX w G WF (r.map fun v => some (mI v)) d' m) m a1 a2) (fun q => q = (d', r))) x) : V w l WF G (QX w G WF (r.map fun v => some (mI v)) d' m) d m 0 0 57 [mA 10, mA a1, mI a2, mU, mI v4] [mI s1, mI s0] := by
  unfold fX2_operand_57 at h
  refine v_iadd F dX2_operand_57 ?_
  obtain ⟨x7, ex7, h⟩ := lv_some h
  refine v_nI ex7 ?_
  refine v_istore_n F dX2_operand_58 rfl (Nat.le_of_ble_eq_true rfl) (L' := [mA 10, mA a1, mI a2, mI x7, mI v4]) rfl ?_
  refine v_aload_n F dX2_operand_59 rfl rfl ?_
  refine v_iload F dX2_operand_60 rfl ?_
  refine v_if_ne F dX2_operand_62 rfl (fun hq8 => ?_) (fun hq8 => ?_)
  · rw [if_neg hq8] at h
    refine v_iconst F dX2_operand_73 ⟨by decide, by decide⟩ ?_
    refine v_goto F dX2_operand_74 rfl ?_
    exact fX2_operand_78_ok F hX hT hp hp1 h K
  · rw [if_pos hq8] at h
    refine v_iload_n F dX2_operand_65 rfl rfl ?_
    refine v_iload_n F dX2_operand_66 rfl rfl ?_
    refine v_iadd F dX2_operand_67 ?_
    refine v_bipush F dX2_operand_68 rfl ⟨by decide, by decide⟩ ?_
    refine v_icmp_gt F dX2_operand_70 rfl (fun hq16 => ?_) (fun hq16 => ?_)
    · rw [if_pos hq16] at h
      refine v_iconst F dX2_operand_77 ⟨by decide, by decide⟩ ?_
      exact fX2_operand_78_ok F hX hT hp hp1 h K
    · rw [if_neg hq16] at h
      refine v_iconst F dX2_operand_73 ⟨by decide, by decide⟩ ?_
      refine v_goto F dX2_operand_74 rfl ?_
      exact fX2_operand_78_ok F hX hT hp hp1 h K
theorem fX2_operand_33_ok {w : Wd} {l : Launch} {G : Cx} {d m dd : Dt} {a1 a2 v3 s0 : Int} {d' : Dt} {r : Option Int} {x : ((Dt × Int) ⊕ (Dt × Option Int))} (F : Fx w G cX2_operand RX2 5 (some .int) { frames := 12, cells := 0, slots := 0, locals := 267 }) (hX : WF dd m) (hT : NoT G) (hp : PB m 10 2) (hp1 : PB m a1 5) (h : fX2_operand_33 d a1 a2 v3 s0 = some x) (K : (Sum.elim (fX2_operand_2P w l G (QX w G WF (r.map fun v => some (mI v)) d' m) m a1 a2) (fun q => q = (d', r))) x) : V w l WF G (QX w G WF (r.map fun v => some (mI v)) d' m) d m 0 0 33 [mA 10, mA a1, mI a2, mI v3, mU] [mI s0] := by
  unfold fX2_operand_33 at h
  refine v_istore F dX2_operand_33 (Nat.le_of_ble_eq_true rfl) (L' := [mA 10, mA a1, mI a2, mI v3, mI s0]) rfl ?_
  refine v_aload_n F dX2_operand_35 rfl rfl ?_
  refine v_dup_A F dX2_operand_36 ?_
  refine gf_X2_296 F dX2_operand_37 hp ?_
  refine v_iload F dX2_operand_40 rfl ?_
  refine v_ixor F dX2_operand_42 ?_
  obtain ⟨x3, ex3, h⟩ := lv_some h
  refine v_nI ex3 ?_
  obtain ⟨hb4, h⟩ := ck_some h
  obtain ⟨d5, ed5, h⟩ := sd_some h
  refine pf_X2_296 F dX2_operand_43 hp hb4 ?_
  refine v_nD ed5 ?_
  refine v_iload_n F dX2_operand_46 rfl rfl ?_
  refine v_iload F dX2_operand_47 rfl ?_
  refine v_if_eq F dX2_operand_49 rfl (fun hq6 => ?_) (fun hq6 => ?_)
  · rw [if_pos hq6] at h
    refine v_iconst F dX2_operand_56 ⟨by decide, by decide⟩ ?_
    refine v_fgt (L' := [mA 10, mA a1, mI a2, mU, mI s0]) ⟨Or.inl rfl, Or.inl rfl, Or.inl rfl, Or.inr rfl, Or.inl rfl, trivial⟩ ?_
    exact fX2_operand_57_ok F hX hT hp hp1 h K
  · rw [if_neg hq6] at h
    refine v_iconst F dX2_operand_52 ⟨by decide, by decide⟩ ?_
    refine v_goto F dX2_operand_53 rfl ?_
    refine v_fgt (L' := [mA 10, mA a1, mI a2, mU, mI s0]) ⟨Or.inl rfl, Or.inl rfl, Or.inl rfl, Or.inr rfl, Or.inl rfl, trivial⟩ ?_
    exact fX2_operand_57_ok F hX hT hp hp1 h K
theorem fX2_operand_20_ok {w : Wd} {l : Launch} {G : Cx} {d m dd : Dt} {a1 a2 v3 : Int} {d' : Dt} {r : Option Int} {x : ((Dt × Int) ⊕ (Dt × Option Int))} (F : Fx w G cX2_operand RX2 5 (some .int) { frames := 12, cells := 0, slots := 0, locals := 267 }) (hX : WF dd m) (hT : NoT G) (hp : PB m 10 2) (hp1 : PB m a1 5) (h : fX2_operand_20 d a1 a2 v3 = some x) (K : (Sum.elim (fX2_operand_2P w l G (QX w G WF (r.map fun v => some (mI v)) d' m) m a1 a2) (fun q => q = (d', r))) x) : V w l WF G (QX w G WF (r.map fun v => some (mI v)) d' m) d m 0 0 20 [mA 10, mA a1, mI a2, mI v3, mU] [] := by
  unfold fX2_operand_20 at h
  refine v_aload_n F dX2_operand_20 rfl rfl ?_
  refine gf_X2_193 F dX2_operand_21 hp ?_
  refine v_iconst F dX2_operand_24 ⟨by decide, by decide⟩ ?_
  refine v_icmp_ne F dX2_operand_25 rfl (fun hq2 => ?_) (fun hq2 => ?_)
  · rw [if_neg hq2] at h
    refine v_iconst F dX2_operand_32 ⟨by decide, by decide⟩ ?_
    exact fX2_operand_33_ok F hX hT hp hp1 h K
  · rw [if_pos hq2] at h
    refine v_iconst F dX2_operand_28 ⟨by decide, by decide⟩ ?_
    refine v_goto F dX2_operand_29 rfl ?_
    exact fX2_operand_33_ok F hX hT hp hp1 h K
theorem fX2_operand_2f_ok {w : Wd} {l : Launch} {G : Cx} {m dd : Dt} {a1 a2 : Int} {d' : Dt} {r : Option Int} {s : Dt × Int} {x : ((Dt × Int) ⊕ (Dt × Option Int))} (F : Fx w G cX2_operand RX2 5 (some .int) { frames := 12, cells := 0, slots := 0, locals := 267 }) (hX : WF dd m) (hT : NoT G) (hp : PB m 10 2) (hp1 : PB m a1 5) (h : fX2_operand_2f a1 a2 s = some x) (K : (Sum.elim (fX2_operand_2P w l G (QX w G WF (r.map fun v => some (mI v)) d' m) m a1 a2) (fun q => q = (d', r))) x) : V w l WF G (QX w G WF (r.map fun v => some (mI v)) d' m) s.1 m 0 0 2 [mA 10, mA a1, mI a2, mI (s.2), mU] [] := by
  obtain ⟨d, v3⟩ := s
  unfold fX2_operand_2f at h
  dsimp only at h
  refine v_aload_n F dX2_operand_2 rfl rfl ?_
  refine v_bipush F dX2_operand_3 rfl ⟨by decide, by decide⟩ ?_
  refine v_callVv (c := 2) F dX2_operand_5 cv_X2_202 rfl (PB.ob hp hX (Nat.le_of_ble_eq_true rfl)) (Nat.le_of_ble_eq_true rfl) rfl (vm_X2_isWordHere hp) rfl (rOk.of rfl) ?_
  refine v_if_ne F dX2_operand_8 rfl (fun hq1 => ?_) (fun hq1 => ?_)
  · rw [if_neg hq1] at h
    exact fX2_operand_20_ok F hX hT hp hp1 h K
  · rw [if_pos hq1] at h
    refine v_aload_n F dX2_operand_11 rfl rfl ?_
    refine v_bipush F dX2_operand_12 rfl ⟨by decide, by decide⟩ ?_
    refine v_callVv (c := 2) F dX2_operand_14 cv_X2_212 rfl (PB.ob hp hX (Nat.le_of_ble_eq_true rfl)) (Nat.le_of_ble_eq_true rfl) rfl (vm_X2_isSign hp) rfl (rOk.of rfl) ?_
    refine v_if_eq F dX2_operand_17 rfl (fun hq17 => ?_) (fun hq17 => ?_)
    · rw [if_pos hq17] at h
      obtain ⟨z, hu, ez⟩ := up_some h
      clear h
      subst ez
      have h := hu
      clear hu
      refine v_aload_n F dX2_operand_108 rfl rfl ?_
      refine v_callVv (c := 2) F dX2_operand_109 cv_X2_339 rfl (PB.ob hp hX (Nat.le_of_ble_eq_true rfl)) (Nat.le_of_ble_eq_true rfl) rfl (vm_X2_isTest hp) rfl (rOk.of rfl) ?_
      refine v_if_ne F dX2_operand_112 rfl (fun hq18 => ?_) (fun hq18 => ?_)
      · rw [if_neg hq18] at h
        refine v_aload_n F dX2_operand_120 rfl rfl ?_
        refine v_aload_n F dX2_operand_121 rfl rfl ?_
        obtain ⟨d19, x21o, hc20, ho22⟩ := bx_some h
        clear h
        rcases ho22 with ⟨rfl, h⟩ | ⟨x21, rfl, h⟩
        · refine v_callXt (c := 2) F dX2_operand_122 cl_X2_343 rfl (PB.ob hp hX (Nat.le_of_ble_eq_true rfl)) (Nat.le_of_ble_eq_true rfl) rfl (vm_X2_test hp hp1 hc20) rfl (rOk.of rfl) ?_
          cases h
          cases (show _ = (d', r) from K)
          exact v_leave F hT (PB.ob (ob_X2_1 hX hp (v := 11)) hX (Nat.le_of_ble_eq_true rfl))
        refine v_callX0 (c := 2) F dX2_operand_122 cl_X2_343 rfl (PB.ob hp hX (Nat.le_of_ble_eq_true rfl)) (Nat.le_of_ble_eq_true rfl) rfl (vm_X2_test hp hp1 hc20) rfl (rOk.of rfl) ?_
        refine v_aload_n F dX2_operand_125 rfl rfl ?_
        refine v_aload_n F dX2_operand_126 rfl rfl ?_
        obtain ⟨d23, hc24, h⟩ := bd_some h
        refine v_callV0 (c := 2) F dX2_operand_127 cv_X2_331 rfl (PB.ob hp hX (Nat.le_of_ble_eq_true rfl)) (Nat.le_of_ble_eq_true rfl) rfl (vm_X2_turns hp hp1 hc24) rfl (rOk.of rfl) ?_
        refine v_iload_n F dX2_operand_130 rfl rfl ?_
        cases h
        cases (show _ = (d', r) from K)
        refine v_xret ?_
        exact v_iret F dX2_operand_131
      · rw [if_pos hq18] at h
        refine v_aload_n F dX2_operand_115 rfl rfl ?_
        obtain ⟨d25, x27, hc26, h⟩ := b2_some h
        obtain rfl := bad11 hc26
        refine v_callVv (c := 2) F dX2_operand_116 cv_X2_205 rfl (PB.ob hp hX (Nat.le_of_ble_eq_true rfl)) (Nat.le_of_ble_eq_true rfl) rfl (vm_X2_bad hp hc26) rfl (rOk.of rfl) ?_
        refine v_athrow F dX2_operand_119 ?_
        cases h
        cases (show _ = (d', r) from K)
        exact v_leave F hT (PB.ob (ob_X2_1 hX hp (v := 11)) hX (Nat.le_of_ble_eq_true rfl))
    · rw [if_neg hq17] at h
      exact fX2_operand_20_ok F hX hT hp hp1 h K
theorem fX2_operand_2_ok {w : Wd} {l : Launch} {G : Cx} {d m dd : Dt} {a1 a2 v3 : Int} {d' : Dt} {r : Option Int} {x : (Dt × Option Int)} (F : Fx w G cX2_operand RX2 5 (some .int) { frames := 12, cells := 0, slots := 0, locals := 267 }) (hX : WF dd m) (hT : NoT G) (hp : PB m 10 2) (hp1 : PB m a1 5) (h : fX2_operand_2 d a1 a2 v3 = some x) (K : (fun q => q = (d', r)) x) : V w l WF G (QX w G WF (r.map fun v => some (mI v)) d' m) d m 0 0 2 [mA 10, mA a1, mI a2, mI v3, mU] [] := by
  unfold fX2_operand_2 at h
  exact loop_ok (P := fX2_operand_2P w l G (QX w G WF (r.map fun v => some (mI v)) d' m) m a1 a2) (fun s x hx h1 h2 => fX2_operand_2f_ok F hX hT hp hp1 hx (by
    cases x with
    | inl s' => exact h1 s' rfl
    | inr z => cases h2 z rfl; exact K)) h
theorem vm_X2_operand {w : Wd} {l : Launch} {d m : Dt} {a1 a2 : Int} {d' : Dt} {r : Option Int} (hp : PB m 10 2) (hp1 : PB m a1 5) (h : fX2_operand d a1 a2 = some (d', r)) : VMX w l WF yX2_operand cX2_operand 5 (some .int) 12 267 d m [mA 10, mA a1, mI a2] (r.map fun v => some (mI v)) d' m := by
  obtain ⟨x, h, K⟩ : ∃ x, fX2_operand d a1 a2 = some x ∧ x = (d', r) := ⟨_, h, rfl⟩
  refine VMX.of (L := [mA 10, mA a1, mI a2, mU, mU]) (by decide +kernel) rfl (Nat.le_of_ble_eq_true rfl) fun G F hT => v_fact fun _ hX _ _ => ?_
  unfold fX2_operand at h
  refine v_iconst F dX2_operand_0 ⟨by decide, by decide⟩ ?_
  refine v_istore_n F dX2_operand_1 rfl (Nat.le_of_ble_eq_true rfl) (L' := [mA 10, mA a1, mI a2, mI 0, mU]) rfl ?_
  exact fX2_operand_2_ok F hX hT hp hp1 h K
def fX2_joins_0P (w : Wd) (l : Launch) (G : Cx) (Q : State → Prop) (m : Dt) (a1 : Int) (s : Dt) : Prop := V w l WF G Q s m 0 0 0 [mA 10, mA a1] []
theorem fX2_joins_0f_ok {w : Wd} {l : Launch} {G : Cx} {m dd : Dt} {a1 : Int} {d' : Dt} {s : Dt} {x : ((Dt) ⊕ Dt)} (F : Fx w G cX2_joins RX2 2 none { frames := 2, cells := 0, slots := 0, locals := 43 }) (hX : WF dd m) (hp : PB m 10 2) (hp1 : PB m a1 5) (h : fX2_joins_0f a1 s = some x) (K : (Sum.elim (fX2_joins_0P w l G (QM w G WF none d' m 0 0) m a1) (fun q => q = d')) x) : V w l WF G (QM w G WF none d' m 0 0) s m 0 0 0 [mA 10, mA a1] [] := by
  obtain ⟨d, rfl⟩ : ∃ z, z = s := ⟨s, rfl⟩
  unfold fX2_joins_0f at h
  dsimp only at h
  refine v_aload_n F dX2_joins_0 rfl rfl ?_
  refine gf_X2_311 F dX2_joins_1 hp ?_
  refine v_if_le F dX2_joins_4 rfl (fun hq1 => ?_) (fun hq1 => ?_)
  · rw [if_pos hq1] at h
    obtain ⟨z, hu, ez⟩ := up_some h
    clear h
    subst ez
    have h := hu
    clear hu
    cases h
    cases (show _ = d' from K)
    exact v_vret F dX2_joins_23
  · rw [if_neg hq1] at h
    refine v_aload_n F dX2_joins_7 rfl rfl ?_
    refine v_iconst F dX2_joins_8 ⟨by decide, by decide⟩ ?_
    obtain ⟨x2, hc3, h⟩ := b1_some h
    refine v_callVv (c := 2) F dX2_joins_9 cv_X2_314 rfl (PB.ob hp hX (Nat.le_of_ble_eq_true rfl)) (Nat.le_of_ble_eq_true rfl) rfl (vm_X2_isTop hp hc3) rfl (rOk.of rfl) ?_
    refine v_if_ne F dX2_joins_12 rfl (fun hq4 => ?_) (fun hq4 => ?_)
    · rw [if_neg hq4] at h
      obtain ⟨z, hu, ez⟩ := up_some h
      clear h
      subst ez
      have h := hu
      clear hu
      cases h
      cases (show _ = d' from K)
      exact v_vret F dX2_joins_23
    · rw [if_pos hq4] at h
      refine v_aload_n F dX2_joins_15 rfl rfl ?_
      refine v_aload_n F dX2_joins_16 rfl rfl ?_
      obtain ⟨d5, hc6, h⟩ := bd_some h
      refine v_callV0 (c := 2) F dX2_joins_17 cv_X2_317 rfl (PB.ob hp hX (Nat.le_of_ble_eq_true rfl)) (Nat.le_of_ble_eq_true rfl) rfl (vm_X2_pop hp hp1 hc6) rfl (rOk.of rfl) ?_
      refine v_goto F dX2_joins_20 rfl ?_
      cases h
      exact K
theorem fX2_joins_0_ok {w : Wd} {l : Launch} {G : Cx} {d m dd : Dt} {a1 : Int} {d' : Dt} {x : Dt} (F : Fx w G cX2_joins RX2 2 none { frames := 2, cells := 0, slots := 0, locals := 43 }) (hX : WF dd m) (hp : PB m 10 2) (hp1 : PB m a1 5) (h : fX2_joins_0 d a1 = some x) (K : (fun q => q = d') x) : V w l WF G (QM w G WF none d' m 0 0) d m 0 0 0 [mA 10, mA a1] [] := by
  unfold fX2_joins_0 at h
  exact loop_ok (P := fX2_joins_0P w l G (QM w G WF none d' m 0 0) m a1) (fun s x hx h1 h2 => fX2_joins_0f_ok F hX hp hp1 hx (by
    cases x with
    | inl s' => exact h1 s' rfl
    | inr z => cases h2 z rfl; exact K)) h
theorem vm_X2_joins {w : Wd} {l : Launch} {d m : Dt} {a1 : Int} {d' : Dt} (hp : PB m 10 2) (hp1 : PB m a1 5) (h : fX2_joins d a1 = some d') : VM w l WF yX2_joins cX2_joins 2 none 2 43 0 0 d m [mA 10, mA a1] none d' m := by
  obtain ⟨x, h, K⟩ : ∃ x, fX2_joins d a1 = some x ∧ x = d' := ⟨_, h, rfl⟩
  refine VM.of (L := [mA 10, mA a1]) (by decide +kernel) rfl (Nat.le_of_ble_eq_true rfl) fun G F _ => v_fact fun _ hX _ _ => ?_
  unfold fX2_joins at h
  exact fX2_joins_0_ok F hX hp hp1 h K
def fX2_sign_2_15P (w : Wd) (l : Launch) (G : Cx) (Q : State → Prop) (m : Dt) (a1 v2 : Int) (s : Dt) : Prop := V w l WF G Q s m 0 0 15 [mA 10, mA a1, mI v2] []
theorem fX2_sign_2_39_ok {w : Wd} {l : Launch} {G : Cx} {d m dd : Dt} {a1 v2 : Int} {d' : Dt} {x : ((Dt) ⊕ Dt)} (F : Fx w G cX2_sign_2 RX2 3 none { frames := 7, cells := 0, slots := 0, locals := 148 }) (hX : WF dd m) (hp : PB m 10 2) (hp1 : PB m a1 5) (h : fX2_sign_2_39 d a1 v2 = some x) (K : (Sum.elim (fX2_sign_2_15P w l G (QM w G WF none d' m 0 0) m a1 v2) (fun q => q = d')) x) : V w l WF G (QM w G WF none d' m 0 0) d m 0 0 39 [mA 10, mA a1, mI v2] [] := by
  unfold fX2_sign_2_39 at h
  refine v_aload_n F dX2_sign_2_39 rfl rfl ?_
  refine v_aload_n F dX2_sign_2_40 rfl rfl ?_
  obtain ⟨d5, hc6, h⟩ := bd_some h
  refine v_callV0 (c := 2) F dX2_sign_2_41 cv_X2_317 rfl (PB.ob hp hX (Nat.le_of_ble_eq_true rfl)) (Nat.le_of_ble_eq_true rfl) rfl (vm_X2_pop hp hp1 hc6) rfl (rOk.of rfl) ?_
  refine v_goto F dX2_sign_2_44 rfl ?_
  cases h
  exact K
theorem fX2_sign_2_61_ok {w : Wd} {l : Launch} {G : Cx} {d m dd : Dt} {a1 s1 : Int} {d' : Dt} {x : Dt} (F : Fx w G cX2_sign_2 RX2 3 none { frames := 7, cells := 0, slots := 0, locals := 148 }) (hX : WF dd m) (hp : PB m 10 2) (hp1 : PB m a1 5) (h : fX2_sign_2_61 d a1 s1 = some x) (K : (fun q => q = d') x) : V w l WF G (QM w G WF none d' m 0 0) d m 0 0 61 [mA 10, mU, mU] [mI s1, mA 10] := by
  unfold fX2_sign_2_61 at h
  obtain ⟨d9, hc10, h⟩ := bd_some h
  refine v_callV0 (c := 2) F dX2_sign_2_61 cv_X2_336 rfl (PB.ob hp hX (Nat.le_of_ble_eq_true rfl)) (Nat.le_of_ble_eq_true rfl) rfl (vm_X2_push hp hc10) rfl (rOk.of rfl) ?_
  refine v_aload_n F dX2_sign_2_64 rfl rfl ?_
  obtain ⟨d11, hc12, h⟩ := bd_some h
  refine v_callV0 (c := 2) F dX2_sign_2_65 cv_X2_209 rfl (PB.ob hp hX (Nat.le_of_ble_eq_true rfl)) (Nat.le_of_ble_eq_true rfl) rfl (vm_X2_take hp hc12) rfl (rOk.of rfl) ?_
  cases h
  cases (show _ = d' from K)
  exact v_vret F dX2_sign_2_68
theorem fX2_sign_2_47_ok {w : Wd} {l : Launch} {G : Cx} {d m dd : Dt} {a1 v2 : Int} {d' : Dt} {x : Dt} (F : Fx w G cX2_sign_2 RX2 3 none { frames := 7, cells := 0, slots := 0, locals := 148 }) (hX : WF dd m) (hp : PB m 10 2) (hp1 : PB m a1 5) (h : fX2_sign_2_47 d a1 v2 = some x) (K : (fun q => q = d') x) : V w l WF G (QM w G WF none d' m 0 0) d m 0 0 47 [mA 10, mU, mI v2] [] := by
  unfold fX2_sign_2_47 at h
  refine v_aload_n F dX2_sign_2_47 rfl rfl ?_
  refine v_iload_n F dX2_sign_2_48 rfl rfl ?_
  refine v_if_eq F dX2_sign_2_49 rfl (fun hq8 => ?_) (fun hq8 => ?_)
  · rw [if_pos hq8] at h
    refine v_sipush F dX2_sign_2_58 rfl ⟨by decide, by decide⟩ ?_
    refine v_fgt (L' := [mA 10, mU, mU]) ⟨Or.inl rfl, Or.inl rfl, Or.inr rfl, trivial⟩ ?_
    exact fX2_sign_2_61_ok F hX hp hp1 h K
  · rw [if_neg hq8] at h
    refine v_sipush F dX2_sign_2_52 rfl ⟨by decide, by decide⟩ ?_
    refine v_goto F dX2_sign_2_55 rfl ?_
    refine v_fgt (L' := [mA 10, mU, mU]) ⟨Or.inl rfl, Or.inl rfl, Or.inr rfl, trivial⟩ ?_
    exact fX2_sign_2_61_ok F hX hp hp1 h K
theorem fX2_sign_2_15f_ok {w : Wd} {l : Launch} {G : Cx} {m dd : Dt} {a1 v2 : Int} {d' : Dt} {s : Dt} {x : ((Dt) ⊕ Dt)} (F : Fx w G cX2_sign_2 RX2 3 none { frames := 7, cells := 0, slots := 0, locals := 148 }) (hX : WF dd m) (hp : PB m 10 2) (hp1 : PB m a1 5) (h : fX2_sign_2_15f a1 v2 s = some x) (K : (Sum.elim (fX2_sign_2_15P w l G (QM w G WF none d' m 0 0) m a1 v2) (fun q => q = d')) x) : V w l WF G (QM w G WF none d' m 0 0) s m 0 0 15 [mA 10, mA a1, mI v2] [] := by
  obtain ⟨d, rfl⟩ : ∃ z, z = s := ⟨s, rfl⟩
  unfold fX2_sign_2_15f at h
  dsimp only at h
  refine v_aload_n F dX2_sign_2_15 rfl rfl ?_
  refine v_sipush F dX2_sign_2_16 rfl ⟨by decide, by decide⟩ ?_
  obtain ⟨x2, hc3, h⟩ := b1_some h
  refine v_callVv (c := 2) F dX2_sign_2_19 cv_X2_314 rfl (PB.ob hp hX (Nat.le_of_ble_eq_true rfl)) (Nat.le_of_ble_eq_true rfl) rfl (vm_X2_isTop hp hc3) rfl (rOk.of rfl) ?_
  refine v_if_ne F dX2_sign_2_22 rfl (fun hq4 => ?_) (fun hq4 => ?_)
  · rw [if_neg hq4] at h
    exact fX2_sign_2_39_ok F hX hp hp1 h K
  · rw [if_pos hq4] at h
    refine v_iload_n F dX2_sign_2_25 rfl rfl ?_
    refine v_if_ne F dX2_sign_2_26 rfl (fun hq7 => ?_) (fun hq7 => ?_)
    · rw [if_neg hq7] at h
      obtain ⟨z, hu, ez⟩ := up_some h
      clear h
      subst ez
      have h := hu
      clear hu
      refine v_fgt (L' := [mA 10, mU, mI v2]) ⟨Or.inl rfl, Or.inr rfl, Or.inl rfl, trivial⟩ ?_
      exact fX2_sign_2_47_ok F hX hp hp1 h K
    · rw [if_pos hq7] at h
      refine v_aload_n F dX2_sign_2_29 rfl rfl ?_
      refine v_sipush F dX2_sign_2_30 rfl ⟨by decide, by decide⟩ ?_
      obtain ⟨x13, hc14, h⟩ := b1_some h
      refine v_callVv (c := 2) F dX2_sign_2_33 cv_X2_314 rfl (PB.ob hp hX (Nat.le_of_ble_eq_true rfl)) (Nat.le_of_ble_eq_true rfl) rfl (vm_X2_isTop hp hc14) rfl (rOk.of rfl) ?_
      refine v_if_eq F dX2_sign_2_36 rfl (fun hq15 => ?_) (fun hq15 => ?_)
      · rw [if_pos hq15] at h
        obtain ⟨z, hu, ez⟩ := up_some h
        clear h
        subst ez
        have h := hu
        clear hu
        refine v_fgt (L' := [mA 10, mU, mI v2]) ⟨Or.inl rfl, Or.inr rfl, Or.inl rfl, trivial⟩ ?_
        exact fX2_sign_2_47_ok F hX hp hp1 h K
      · rw [if_neg hq15] at h
        exact fX2_sign_2_39_ok F hX hp hp1 h K
theorem fX2_sign_2_15_ok {w : Wd} {l : Launch} {G : Cx} {d m dd : Dt} {a1 v2 : Int} {d' : Dt} {x : Dt} (F : Fx w G cX2_sign_2 RX2 3 none { frames := 7, cells := 0, slots := 0, locals := 148 }) (hX : WF dd m) (hp : PB m 10 2) (hp1 : PB m a1 5) (h : fX2_sign_2_15 d a1 v2 = some x) (K : (fun q => q = d') x) : V w l WF G (QM w G WF none d' m 0 0) d m 0 0 15 [mA 10, mA a1, mI v2] [] := by
  unfold fX2_sign_2_15 at h
  exact loop_ok (P := fX2_sign_2_15P w l G (QM w G WF none d' m 0 0) m a1 v2) (fun s x hx h1 h2 => fX2_sign_2_15f_ok F hX hp hp1 hx (by
    cases x with
    | inl s' => exact h1 s' rfl
    | inr z => cases h2 z rfl; exact K)) h
theorem vm_X2_sign_2 {w : Wd} {l : Launch} {d m : Dt} {a1 : Int} {d' : Dt} (hp : PB m 10 2) (hp1 : PB m a1 5) (h : fX2_sign_2 d a1 = some d') : VM w l WF yX2_sign_2 cX2_sign_2 3 none 7 148 0 0 d m [mA 10, mA a1] none d' m := by
  obtain ⟨x, h, K⟩ : ∃ x, fX2_sign_2 d a1 = some x ∧ x = d' := ⟨_, h, rfl⟩
  refine VM.of (L := [mA 10, mA a1, mU]) (by decide +kernel) rfl (Nat.le_of_ble_eq_true rfl) fun G F _ => v_fact fun _ hX _ _ => ?_
  unfold fX2_sign_2 at h
  refine v_aload_n F dX2_sign_2_0 rfl rfl ?_
  refine gf_X2_182 F dX2_sign_2_1 hp ?_
  refine v_bipush F dX2_sign_2_4 rfl ⟨by decide, by decide⟩ ?_
  refine v_icmp_ne F dX2_sign_2_6 rfl (fun hq1 => ?_) (fun hq1 => ?_)
  · rw [if_neg hq1] at h
    refine v_iconst F dX2_sign_2_13 ⟨by decide, by decide⟩ ?_
    refine v_istore_n F dX2_sign_2_14 rfl (Nat.le_of_ble_eq_true rfl) (L' := [mA 10, mA a1, mI 0]) rfl ?_
    exact fX2_sign_2_15_ok F hX hp hp1 h K
  · rw [if_pos hq1] at h
    refine v_iconst F dX2_sign_2_9 ⟨by decide, by decide⟩ ?_
    refine v_goto F dX2_sign_2_10 rfl ?_
    refine v_istore_n F dX2_sign_2_14 rfl (Nat.le_of_ble_eq_true rfl) (L' := [mA 10, mA a1, mI 1]) rfl ?_
    exact fX2_sign_2_15_ok F hX hp hp1 h K
def fX2_condition_22P (w : Wd) (l : Launch) (G : Cx) (Q : State → Prop) (m : Dt) (a1 : Int) (s : Dt × Int × Int) : Prop := V w l WF G Q s.1 m 0 0 22 [mA 10, mA a1, mI (s.2.1), mI (s.2.2)] []
def fX2_condition_35P (w : Wd) (l : Launch) (G : Cx) (Q : State → Prop) (m : Dt) (a1 : Int) (s : Dt × Int) : Prop := V w l WF G Q s.1 m 0 0 35 [mA 10, mA a1, mI (s.2), mU] []
theorem fX2_condition_101_ok {w : Wd} {l : Launch} {G : Cx} {d m dd : Dt} {a1 v2 s0 : Int} {d' : Dt} {r : Option Int} {x : ((Dt × Int × Int) ⊕ (Dt × Option Int))} (F : Fx w G cX2_condition RX2 4 none { frames := 13, cells := 0, slots := 0, locals := 291 }) (hX : WF dd m) (hT : NoT G) (hp : PB m 10 2) (hp1 : PB m a1 5) (h : fX2_condition_101 d a1 v2 s0 = some x) (K : (Sum.elim (fX2_condition_22P w l G (QX w G WF (r.map fun _ => none) d' m) m a1) (fun q => q = (d', r))) x) : V w l WF G (QX w G WF (r.map fun _ => none) d' m) d m 0 0 101 [mA 10, mA a1, mI v2, mU] [mI s0] := by
  unfold fX2_condition_101 at h
  refine v_istore_n F dX2_condition_101 rfl (Nat.le_of_ble_eq_true rfl) (L' := [mA 10, mA a1, mI v2, mI s0]) rfl ?_
  refine v_iload_n F dX2_condition_102 rfl rfl ?_
  refine v_if_eq F dX2_condition_103 rfl (fun hq19 => ?_) (fun hq19 => ?_)
  · rw [if_pos hq19] at h
    cases h
    exact K
  · rw [if_neg hq19] at h
    refine v_aload_n F dX2_condition_106 rfl rfl ?_
    refine v_aload_n F dX2_condition_107 rfl rfl ?_
    obtain ⟨d20, hc21, h⟩ := bd_some h
    refine v_callV0 (c := 2) F dX2_condition_108 cv_X2_334 rfl (PB.ob hp hX (Nat.le_of_ble_eq_true rfl)) (Nat.le_of_ble_eq_true rfl) rfl (vm_X2_sign_2 hp hp1 hc21) rfl (rOk.of rfl) ?_
    refine v_goto F dX2_condition_111 rfl ?_
    cases h
    exact K
theorem fX2_condition_78_ok {w : Wd} {l : Launch} {G : Cx} {d m dd : Dt} {a1 v2 : Int} {d' : Dt} {r : Option Int} {x : ((Dt × Int × Int) ⊕ (Dt × Option Int))} (F : Fx w G cX2_condition RX2 4 none { frames := 13, cells := 0, slots := 0, locals := 291 }) (hX : WF dd m) (hT : NoT G) (hp : PB m 10 2) (hp1 : PB m a1 5) (h : fX2_condition_78 d a1 v2 = some x) (K : (Sum.elim (fX2_condition_22P w l G (QX w G WF (r.map fun _ => none) d' m) m a1) (fun q => q = (d', r))) x) : V w l WF G (QX w G WF (r.map fun _ => none) d' m) d m 0 0 78 [mA 10, mA a1, mI v2, mU] [] := by
  unfold fX2_condition_78 at h
  refine v_aload_n F dX2_condition_78 rfl rfl ?_
  refine v_bipush F dX2_condition_79 rfl ⟨by decide, by decide⟩ ?_
  refine v_callVv (c := 2) F dX2_condition_81 cv_X2_202 rfl (PB.ob hp hX (Nat.le_of_ble_eq_true rfl)) (Nat.le_of_ble_eq_true rfl) rfl (vm_X2_isWordHere hp) rfl (rOk.of rfl) ?_
  refine v_if_ne F dX2_condition_84 rfl (fun hq18 => ?_) (fun hq18 => ?_)
  · rw [if_neg hq18] at h
    refine v_iconst F dX2_condition_96 ⟨by decide, by decide⟩ ?_
    refine v_goto F dX2_condition_97 rfl ?_
    exact fX2_condition_101_ok F hX hT hp hp1 h K
  · rw [if_pos hq18] at h
    refine v_aload_n F dX2_condition_87 rfl rfl ?_
    refine v_bipush F dX2_condition_88 rfl ⟨by decide, by decide⟩ ?_
    refine v_callVv (c := 2) F dX2_condition_90 cv_X2_202 rfl (PB.ob hp hX (Nat.le_of_ble_eq_true rfl)) (Nat.le_of_ble_eq_true rfl) rfl (vm_X2_isWordHere hp) rfl (rOk.of rfl) ?_
    refine v_if_eq F dX2_condition_93 rfl (fun hq22 => ?_) (fun hq22 => ?_)
    · rw [if_pos hq22] at h
      refine v_iconst F dX2_condition_100 ⟨by decide, by decide⟩ ?_
      exact fX2_condition_101_ok F hX hT hp hp1 h K
    · rw [if_neg hq22] at h
      refine v_iconst F dX2_condition_96 ⟨by decide, by decide⟩ ?_
      refine v_goto F dX2_condition_97 rfl ?_
      exact fX2_condition_101_ok F hX hT hp hp1 h K
theorem fX2_condition_35f_ok {w : Wd} {l : Launch} {G : Cx} {m dd : Dt} {a1 : Int} {d' : Dt} {r : Option Int} {s : Dt × Int} {x : ((Dt × Int) ⊕ ((Dt × Int × Int) ⊕ (Dt × Option Int)))} (F : Fx w G cX2_condition RX2 4 none { frames := 13, cells := 0, slots := 0, locals := 291 }) (hX : WF dd m) (hT : NoT G) (hp : PB m 10 2) (hp1 : PB m a1 5) (h : fX2_condition_35f a1 s = some x) (K : (Sum.elim (fX2_condition_35P w l G (QX w G WF (r.map fun _ => none) d' m) m a1) (Sum.elim (fX2_condition_22P w l G (QX w G WF (r.map fun _ => none) d' m) m a1) (fun q => q = (d', r)))) x) : V w l WF G (QX w G WF (r.map fun _ => none) d' m) s.1 m 0 0 35 [mA 10, mA a1, mI (s.2), mU] [] := by
  obtain ⟨d, v2⟩ := s
  unfold fX2_condition_35f at h
  dsimp only at h
  refine v_iload_n F dX2_condition_35 rfl rfl ?_
  refine v_if_le F dX2_condition_36 rfl (fun hq17 => ?_) (fun hq17 => ?_)
  · rw [if_pos hq17] at h
    obtain ⟨z, hu, ez⟩ := up_some h
    clear h
    subst ez
    have h := hu
    clear hu
    exact fX2_condition_78_ok F hX hT hp hp1 h K
  · rw [if_neg hq17] at h
    refine v_aload_n F dX2_condition_39 rfl rfl ?_
    refine v_bipush F dX2_condition_40 rfl ⟨by decide, by decide⟩ ?_
    refine v_callVv (c := 2) F dX2_condition_42 cv_X2_212 rfl (PB.ob hp hX (Nat.le_of_ble_eq_true rfl)) (Nat.le_of_ble_eq_true rfl) rfl (vm_X2_isSign hp) rfl (rOk.of rfl) ?_
    refine v_if_eq F dX2_condition_45 rfl (fun hq23 => ?_) (fun hq23 => ?_)
    · rw [if_pos hq23] at h
      obtain ⟨z, hu, ez⟩ := up_some h
      clear h
      subst ez
      have h := hu
      clear hu
      exact fX2_condition_78_ok F hX hT hp hp1 h K
    · rw [if_neg hq23] at h
      refine v_aload_n F dX2_condition_48 rfl rfl ?_
      refine v_aload_n F dX2_condition_49 rfl rfl ?_
      obtain ⟨d24, hc25, h⟩ := bd_some h
      refine v_callV0 (c := 2) F dX2_condition_50 cv_X2_328 rfl (PB.ob hp hX (Nat.le_of_ble_eq_true rfl)) (Nat.le_of_ble_eq_true rfl) rfl (vm_X2_joins hp hp1 hc25) rfl (rOk.of rfl) ?_
      refine v_aload_n F dX2_condition_53 rfl rfl ?_
      refine v_dup_A F dX2_condition_54 ?_
      refine gf_X2_311 F dX2_condition_55 hp ?_
      refine v_iconst F dX2_condition_58 ⟨by decide, by decide⟩ ?_
      refine v_isub F dX2_condition_59 ?_
      obtain ⟨d26, ed26, h⟩ := sd_some h
      refine pf_X2_311 F dX2_condition_60 hp ?_
      refine v_nD ed26 ?_
      obtain ⟨x27, ex27, h⟩ := lv_some h
      refine v_iincN F dX2_condition_63 (Nat.le_of_ble_eq_true rfl) rfl ex27 (L' := [mA 10, mA a1, mI x27, mU]) rfl ?_
      refine v_aload_n F dX2_condition_66 rfl rfl ?_
      obtain ⟨d28, hc29, h⟩ := bd_some h
      refine v_callV0 (c := 2) F dX2_condition_67 cv_X2_209 rfl (PB.ob hp hX (Nat.le_of_ble_eq_true rfl)) (Nat.le_of_ble_eq_true rfl) rfl (vm_X2_take hp hc29) rfl (rOk.of rfl) ?_
      refine v_aload_n F dX2_condition_70 rfl rfl ?_
      refine v_aload_n F dX2_condition_71 rfl rfl ?_
      obtain ⟨d30, hc31, h⟩ := bd_some h
      refine v_callV0 (c := 2) F dX2_condition_72 cv_X2_331 rfl (PB.ob hp hX (Nat.le_of_ble_eq_true rfl)) (Nat.le_of_ble_eq_true rfl) rfl (vm_X2_turns hp hp1 hc31) rfl (rOk.of rfl) ?_
      refine v_goto F dX2_condition_75 rfl ?_
      cases h
      exact K
theorem fX2_condition_35_ok {w : Wd} {l : Launch} {G : Cx} {d m dd : Dt} {a1 v2 : Int} {d' : Dt} {r : Option Int} {x : ((Dt × Int × Int) ⊕ (Dt × Option Int))} (F : Fx w G cX2_condition RX2 4 none { frames := 13, cells := 0, slots := 0, locals := 291 }) (hX : WF dd m) (hT : NoT G) (hp : PB m 10 2) (hp1 : PB m a1 5) (h : fX2_condition_35 d a1 v2 = some x) (K : (Sum.elim (fX2_condition_22P w l G (QX w G WF (r.map fun _ => none) d' m) m a1) (fun q => q = (d', r))) x) : V w l WF G (QX w G WF (r.map fun _ => none) d' m) d m 0 0 35 [mA 10, mA a1, mI v2, mU] [] := by
  unfold fX2_condition_35 at h
  exact loop_ok (P := fX2_condition_35P w l G (QX w G WF (r.map fun _ => none) d' m) m a1) (fun s x hx h1 h2 => fX2_condition_35f_ok F hX hT hp hp1 hx (by
    cases x with
    | inl s' => exact h1 s' rfl
    | inr z => cases h2 z rfl; exact K)) h
theorem fX2_condition_22f_ok {w : Wd} {l : Launch} {G : Cx} {m dd : Dt} {a1 : Int} {d' : Dt} {r : Option Int} {s : Dt × Int × Int} {x : ((Dt × Int × Int) ⊕ (Dt × Option Int))} (F : Fx w G cX2_condition RX2 4 none { frames := 13, cells := 0, slots := 0, locals := 291 }) (hX : WF dd m) (hT : NoT G) (hp : PB m 10 2) (hp1 : PB m a1 5) (h : fX2_condition_22f a1 s = some x) (K : (Sum.elim (fX2_condition_22P w l G (QX w G WF (r.map fun _ => none) d' m) m a1) (fun q => q = (d', r))) x) : V w l WF G (QX w G WF (r.map fun _ => none) d' m) s.1 m 0 0 22 [mA 10, mA a1, mI (s.2.1), mI (s.2.2)] [] := by
  obtain ⟨d, v2, v3⟩ := s
  unfold fX2_condition_22f at h
  dsimp only at h
  refine v_iload_n F dX2_condition_22 rfl rfl ?_
  refine v_if_eq F dX2_condition_23 rfl (fun hq5 => ?_) (fun hq5 => ?_)
  · rw [if_pos hq5] at h
    obtain ⟨z, hu, ez⟩ := up_some h
    clear h
    subst ez
    have h := hu
    clear hu
    refine v_iload_n F dX2_condition_114 rfl rfl ?_
    refine v_if_le F dX2_condition_115 rfl (fun hq6 => ?_) (fun hq6 => ?_)
    · rw [if_pos hq6] at h
      refine v_aload_n F dX2_condition_123 rfl rfl ?_
      refine v_aload_n F dX2_condition_124 rfl rfl ?_
      obtain ⟨d7, hc8, h⟩ := bd_some h
      refine v_callV0 (c := 2) F dX2_condition_125 cv_X2_328 rfl (PB.ob hp hX (Nat.le_of_ble_eq_true rfl)) (Nat.le_of_ble_eq_true rfl) rfl (vm_X2_joins hp hp1 hc8) rfl (rOk.of rfl) ?_
      cases h
      cases (show _ = (d', r) from K)
      refine v_xret ?_
      exact v_vret F dX2_condition_128
    · rw [if_neg hq6] at h
      refine v_aload_n F dX2_condition_118 rfl rfl ?_
      obtain ⟨d9, x11, hc10, h⟩ := b2_some h
      obtain rfl := bad11 hc10
      refine v_callVv (c := 2) F dX2_condition_119 cv_X2_205 rfl (PB.ob hp hX (Nat.le_of_ble_eq_true rfl)) (Nat.le_of_ble_eq_true rfl) rfl (vm_X2_bad hp hc10) rfl (rOk.of rfl) ?_
      refine v_athrow F dX2_condition_122 ?_
      cases h
      cases (show _ = (d', r) from K)
      exact v_leave F hT (PB.ob (ob_X2_1 hX hp (v := 11)) hX (Nat.le_of_ble_eq_true rfl))
  · rw [if_neg hq5] at h
    refine v_iload_n F dX2_condition_26 rfl rfl ?_
    refine v_aload_n F dX2_condition_27 rfl rfl ?_
    refine v_aload_n F dX2_condition_28 rfl rfl ?_
    refine v_iload_n F dX2_condition_29 rfl rfl ?_
    obtain ⟨d12, x14o, hc13, ho15⟩ := bx_some h
    clear h
    rcases ho15 with ⟨rfl, h⟩ | ⟨x14, rfl, h⟩
    · refine v_callXt (c := 2) F dX2_condition_30 cl_X2_324 rfl (PB.ob hp hX (Nat.le_of_ble_eq_true rfl)) (Nat.le_of_ble_eq_true rfl) rfl (vm_X2_operand hp hp1 hc13) rfl (rOk.of rfl) ?_
      cases h
      cases (show _ = (d', r) from K)
      exact v_leave F hT (PB.ob (ob_X2_1 hX hp (v := 11)) hX (Nat.le_of_ble_eq_true rfl))
    refine v_callXv (c := 2) F dX2_condition_30 cl_X2_324 rfl (PB.ob hp hX (Nat.le_of_ble_eq_true rfl)) (Nat.le_of_ble_eq_true rfl) rfl (vm_X2_operand hp hp1 hc13) rfl (rOk.of rfl) ?_
    refine v_iadd F dX2_condition_33 ?_
    obtain ⟨x16, ex16, h⟩ := lv_some h
    refine v_nI ex16 ?_
    refine v_istore_n F dX2_condition_34 rfl (Nat.le_of_ble_eq_true rfl) (L' := [mA 10, mA a1, mI x16, mI v3]) rfl ?_
    refine v_fgt (L' := [mA 10, mA a1, mI x16, mU]) ⟨Or.inl rfl, Or.inl rfl, Or.inl rfl, Or.inr rfl, trivial⟩ ?_
    exact fX2_condition_35_ok F hX hT hp hp1 h K
theorem fX2_condition_22_ok {w : Wd} {l : Launch} {G : Cx} {d m dd : Dt} {a1 v2 v3 : Int} {d' : Dt} {r : Option Int} {x : (Dt × Option Int)} (F : Fx w G cX2_condition RX2 4 none { frames := 13, cells := 0, slots := 0, locals := 291 }) (hX : WF dd m) (hT : NoT G) (hp : PB m 10 2) (hp1 : PB m a1 5) (h : fX2_condition_22 d a1 v2 v3 = some x) (K : (fun q => q = (d', r)) x) : V w l WF G (QX w G WF (r.map fun _ => none) d' m) d m 0 0 22 [mA 10, mA a1, mI v2, mI v3] [] := by
  unfold fX2_condition_22 at h
  exact loop_ok (P := fX2_condition_22P w l G (QX w G WF (r.map fun _ => none) d' m) m a1) (fun s x hx h1 h2 => fX2_condition_22f_ok F hX hT hp hp1 hx (by
    cases x with
    | inl s' => exact h1 s' rfl
    | inr z => cases h2 z rfl; exact K)) h
theorem vm_X2_condition {w : Wd} {l : Launch} {d m : Dt} {a1 : Int} {d' : Dt} {r : Option Int} (hp : PB m 10 2) (hp1 : PB m a1 5) (h : fX2_condition d a1 = some (d', r)) : VMX w l WF yX2_condition cX2_condition 4 none 13 291 d m [mA 10, mA a1] (r.map fun _ => none) d' m := by
  obtain ⟨x, h, K⟩ : ∃ x, fX2_condition d a1 = some x ∧ x = (d', r) := ⟨_, h, rfl⟩
  refine VMX.of (L := [mA 10, mA a1, mU, mU]) (by decide +kernel) rfl (Nat.le_of_ble_eq_true rfl) fun G F hT => v_fact fun _ hX _ _ => ?_
  unfold fX2_condition at h
  refine v_aload_n F dX2_condition_0 rfl rfl ?_
  refine v_aload_n F dX2_condition_1 rfl rfl ?_
  refine gf_X2_280 F dX2_condition_2 hp ?_
  obtain ⟨d1, hc2, h⟩ := bd_some h
  refine v_callV0 (c := 5) F dX2_condition_5 cv_X2_321 rfl (PB.ob hp1 hX (Nat.le_of_ble_eq_true rfl)) (Nat.le_of_ble_eq_true rfl) rfl (vm_X5_begin hp1 hc2) rfl (rOk.of rfl) ?_
  refine v_aload_n F dX2_condition_8 rfl rfl ?_
  refine v_iconst F dX2_condition_9 ⟨by decide, by decide⟩ ?_
  obtain ⟨d3, ed3, h⟩ := sd_some h
  refine pf_X2_311 F dX2_condition_10 hp ?_
  refine v_nD ed3 ?_
  refine v_aload_n F dX2_condition_13 rfl rfl ?_
  refine v_iconst F dX2_condition_14 ⟨by decide, by decide⟩ ?_
  obtain ⟨d4, ed4, h⟩ := sd_some h
  refine pf_X2_296 F dX2_condition_15 hp (Or.inl rfl) ?_
  refine v_nD ed4 ?_
  refine v_iconst F dX2_condition_18 ⟨by decide, by decide⟩ ?_
  refine v_istore_n F dX2_condition_19 rfl (Nat.le_of_ble_eq_true rfl) (L' := [mA 10, mA a1, mI 0, mU]) rfl ?_
  refine v_iconst F dX2_condition_20 ⟨by decide, by decide⟩ ?_
  refine v_istore_n F dX2_condition_21 rfl (Nat.le_of_ble_eq_true rfl) (L' := [mA 10, mA a1, mI 0, mI 1]) rfl ?_
  exact fX2_condition_22_ok F hX hT hp hp1 h K
theorem fX2_clause_40_ok {w : Wd} {l : Launch} {G : Cx} {d m dd : Dt} {v1 v2 s1 : Int} {d' : Dt} {r : Option Int} {x : (Dt × Option Int)} (F : Fx w G cX2_clause RX2 3 none { frames := 14, cells := 0, slots := 0, locals := 314 }) (hX : WF dd m) (hT : NoT G) (hp : PB m 10 2) (h : fX2_clause_40 d v1 v2 s1 = some x) (K : (fun q => q = (d', r)) x) : V w l WF G (QX w G WF (r.map fun _ => none) d' m) d m 0 0 40 [mA 10, mI v1, mI v2] [mI s1, mA 10] := by
  unfold fX2_clause_40 at h
  refine v_iload_n F dX2_clause_40 rfl rfl ?_
  obtain ⟨d9, hc10, h⟩ := bd_some h
  refine v_callV0 (c := 2) F dX2_clause_41 cv_X2_215 rfl (PB.ob hp hX (Nat.le_of_ble_eq_true rfl)) (Nat.le_of_ble_eq_true rfl) rfl (vm_X2_note hp hc10) rfl (rOk.of rfl) ?_
  refine v_aload_n F dX2_clause_44 rfl rfl ?_
  refine gf_X2_18 F dX2_clause_45 hp (v := 12) rfl ?_
  refine v_iload_n F dX2_clause_48 rfl rfl ?_
  refine v_iconst F dX2_clause_49 ⟨by decide, by decide⟩ ?_
  obtain ⟨hi11, h⟩ := ck_some h
  obtain ⟨d12, ed12, h⟩ := sd_some h
  refine v_zast F dX2_clause_50 (ar_X2_11 hX hp) hi11 ?_
  refine v_nD ed12 ?_
  refine v_iload_n F dX2_clause_51 rfl rfl ?_
  by_cases hq13 : v2 = 0
  · rw [if_pos hq13] at h
    refine v_tableIn F dX2_clause_52 hq13 (by decide) (by decide) rfl rfl ?_
    refine v_aload_n F dX2_clause_92 rfl rfl ?_
    obtain ⟨d14, x16o, hc15, ho17⟩ := bx_some h
    clear h
    rcases ho17 with ⟨rfl, h⟩ | ⟨x16, rfl, h⟩
    · refine v_callXt (c := 2) F dX2_clause_93 cl_X2_393 rfl (PB.ob hp hX (Nat.le_of_ble_eq_true rfl)) (Nat.le_of_ble_eq_true rfl) rfl (vm_X2_days hp hc15) rfl (rOk.of rfl) ?_
      cases h
      cases (show _ = (d', r) from K)
      exact v_leave F hT (PB.ob (ob_X2_1 hX hp (v := 11)) hX (Nat.le_of_ble_eq_true rfl))
    refine v_callX0 (c := 2) F dX2_clause_93 cl_X2_393 rfl (PB.ob hp hX (Nat.le_of_ble_eq_true rfl)) (Nat.le_of_ble_eq_true rfl) rfl (vm_X2_days hp hc15) rfl (rOk.of rfl) ?_
    refine v_goto F dX2_clause_96 rfl ?_
    cases h
    cases (show _ = (d', r) from K)
    refine v_xret ?_
    exact v_vret F dX2_clause_206
  · rw [if_neg hq13] at h
    by_cases hq18 : v2 = 1
    · rw [if_pos hq18] at h
      refine v_tableIn F dX2_clause_52 hq18 (by decide) (by decide) rfl rfl ?_
      refine v_aload_n F dX2_clause_99 rfl rfl ?_
      obtain ⟨x19, ex19, h⟩ := lv_some h
      obtain ⟨hn21, h⟩ := ck_some h
      refine gf_X2_263 F dX2_clause_100 hp ex19 fun hr20 => ?_
      have x19p := hr20.resolve_left hn21
      refine v_iconst F dX2_clause_103 ⟨by decide, by decide⟩ ?_
      obtain ⟨d22, ed22, h⟩ := sd_some h
      refine pf_X2_395 F dX2_clause_104 x19p (Or.inr rfl) ?_
      refine v_nD ed22 ?_
      refine v_goto F dX2_clause_107 rfl ?_
      cases h
      cases (show _ = (d', r) from K)
      refine v_xret ?_
      exact v_vret F dX2_clause_206
    · rw [if_neg hq18] at h
      by_cases hq23 : v2 = 2
      · rw [if_pos hq23] at h
        refine v_tableIn F dX2_clause_52 hq23 (by decide) (by decide) rfl rfl ?_
        refine v_aload_n F dX2_clause_110 rfl rfl ?_
        refine v_aload_n F dX2_clause_111 rfl rfl ?_
        obtain ⟨x24, ex24, h⟩ := lv_some h
        obtain ⟨hn26, h⟩ := ck_some h
        refine gf_X2_263 F dX2_clause_112 hp ex24 fun hr25 => ?_
        have x24p := hr25.resolve_left hn26
        refine gf_X2_398 F dX2_clause_115 x24p (v := (x24 + 2)) rfl ?_
        obtain ⟨d27, x29o, hc28, ho30⟩ := bx_some h
        clear h
        rcases ho30 with ⟨rfl, h⟩ | ⟨x29, rfl, h⟩
        · refine v_callXt (c := 2) F dX2_clause_118 cl_X2_402 rfl (PB.ob hp hX (Nat.le_of_ble_eq_true rfl)) (Nat.le_of_ble_eq_true rfl) rfl (vm_X2_condition hp (ob_X4_6 hX x24p) hc28) rfl (rOk.of rfl) ?_
          cases h
          cases (show _ = (d', r) from K)
          exact v_leave F hT (PB.ob (ob_X2_1 hX hp (v := 11)) hX (Nat.le_of_ble_eq_true rfl))
        refine v_callX0 (c := 2) F dX2_clause_118 cl_X2_402 rfl (PB.ob hp hX (Nat.le_of_ble_eq_true rfl)) (Nat.le_of_ble_eq_true rfl) rfl (vm_X2_condition hp (ob_X4_6 hX x24p) hc28) rfl (rOk.of rfl) ?_
        refine v_goto F dX2_clause_121 rfl ?_
        cases h
        cases (show _ = (d', r) from K)
        refine v_xret ?_
        exact v_vret F dX2_clause_206
      · rw [if_neg hq23] at h
        by_cases hq31 : v2 = 3
        · rw [if_pos hq31] at h
          refine v_tableIn F dX2_clause_52 hq31 (by decide) (by decide) rfl rfl ?_
          refine v_aload_n F dX2_clause_124 rfl rfl ?_
          refine v_aload_n F dX2_clause_125 rfl rfl ?_
          obtain ⟨x32, ex32, h⟩ := lv_some h
          obtain ⟨hn34, h⟩ := ck_some h
          refine gf_X2_263 F dX2_clause_126 hp ex32 fun hr33 => ?_
          have x32p := hr33.resolve_left hn34
          refine gf_X2_405 F dX2_clause_129 x32p (v := (x32 + 4)) rfl ?_
          obtain ⟨d35, x37o, hc36, ho38⟩ := bx_some h
          clear h
          rcases ho38 with ⟨rfl, h⟩ | ⟨x37, rfl, h⟩
          · refine v_callXt (c := 2) F dX2_clause_132 cl_X2_402 rfl (PB.ob hp hX (Nat.le_of_ble_eq_true rfl)) (Nat.le_of_ble_eq_true rfl) rfl (vm_X2_condition hp (ob_X4_7 hX x32p) hc36) rfl (rOk.of rfl) ?_
            cases h
            cases (show _ = (d', r) from K)
            exact v_leave F hT (PB.ob (ob_X2_1 hX hp (v := 11)) hX (Nat.le_of_ble_eq_true rfl))
          refine v_callX0 (c := 2) F dX2_clause_132 cl_X2_402 rfl (PB.ob hp hX (Nat.le_of_ble_eq_true rfl)) (Nat.le_of_ble_eq_true rfl) rfl (vm_X2_condition hp (ob_X4_7 hX x32p) hc36) rfl (rOk.of rfl) ?_
          refine v_goto F dX2_clause_135 rfl ?_
          cases h
          cases (show _ = (d', r) from K)
          refine v_xret ?_
          exact v_vret F dX2_clause_206
        · rw [if_neg hq31] at h
          by_cases hq39 : v2 = 4
          · rw [if_pos hq39] at h
            refine v_tableIn F dX2_clause_52 hq39 (by decide) (by decide) rfl rfl ?_
            refine v_aload_n F dX2_clause_138 rfl rfl ?_
            obtain ⟨x40, ex40, h⟩ := lv_some h
            obtain ⟨hn42, h⟩ := ck_some h
            refine gf_X2_263 F dX2_clause_139 hp ex40 fun hr41 => ?_
            have x40p := hr41.resolve_left hn42
            refine v_aload_n F dX2_clause_142 rfl rfl ?_
            refine v_iconst F dX2_clause_143 ⟨by decide, by decide⟩ ?_
            refine v_bipush F dX2_clause_144 rfl ⟨by decide, by decide⟩ ?_
            obtain ⟨d43, x45o, hc44, ho46⟩ := bx_some h
            clear h
            rcases ho46 with ⟨rfl, h⟩ | ⟨x45, rfl, h⟩
            · refine v_callXt (c := 2) F dX2_clause_146 cl_X2_278 rfl (PB.ob hp hX (Nat.le_of_ble_eq_true rfl)) (Nat.le_of_ble_eq_true rfl) rfl (vm_X2_number_2 hp hc44) rfl (rOk.of rfl) ?_
              cases h
              cases (show _ = (d', r) from K)
              exact v_leave F hT (PB.ob (ob_X2_1 hX hp (v := 11)) hX (Nat.le_of_ble_eq_true rfl))
            refine v_callXv (c := 2) F dX2_clause_146 cl_X2_278 rfl (PB.ob hp hX (Nat.le_of_ble_eq_true rfl)) (Nat.le_of_ble_eq_true rfl) rfl (vm_X2_number_2 hp hc44) rfl (rOk.of rfl) ?_
            obtain ⟨d47, ed47, h⟩ := sd_some h
            refine pf_X2_408 F dX2_clause_149 x40p ?_
            refine v_nD ed47 ?_
            refine v_aload_n F dX2_clause_152 rfl rfl ?_
            refine v_bipush F dX2_clause_153 rfl ⟨by decide, by decide⟩ ?_
            refine v_callVv (c := 2) F dX2_clause_155 cv_X2_202 rfl (PB.ob hp hX (Nat.le_of_ble_eq_true rfl)) (Nat.le_of_ble_eq_true rfl) rfl (vm_X2_isWordHere hp) rfl (rOk.of rfl) ?_
            refine v_if_eq F dX2_clause_158 rfl (fun hq48 => ?_) (fun hq48 => ?_)
            · rw [if_pos hq48] at h
              cases h
              cases (show _ = (d', r) from K)
              refine v_xret ?_
              exact v_vret F dX2_clause_206
            · rw [if_neg hq48] at h
              refine v_aload_n F dX2_clause_161 rfl rfl ?_
              obtain ⟨d49, hc50, h⟩ := bd_some h
              refine v_callV0 (c := 2) F dX2_clause_162 cv_X2_209 rfl (PB.ob hp hX (Nat.le_of_ble_eq_true rfl)) (Nat.le_of_ble_eq_true rfl) rfl (vm_X2_take hp hc50) rfl (rOk.of rfl) ?_
              refine v_aload_n F dX2_clause_165 rfl rfl ?_
              obtain ⟨x51, ex51, h⟩ := lv_some h
              obtain ⟨hn53, h⟩ := ck_some h
              refine gf_X2_263 F dX2_clause_166 hp ex51 fun hr52 => ?_
              have x51p := hr52.resolve_left hn53
              refine v_aload_n F dX2_clause_169 rfl rfl ?_
              refine v_iconst F dX2_clause_170 ⟨by decide, by decide⟩ ?_
              refine v_bipush F dX2_clause_171 rfl ⟨by decide, by decide⟩ ?_
              obtain ⟨d54, x56o, hc55, ho57⟩ := bx_some h
              clear h
              rcases ho57 with ⟨rfl, h⟩ | ⟨x56, rfl, h⟩
              · refine v_callXt (c := 2) F dX2_clause_173 cl_X2_278 rfl (PB.ob hp hX (Nat.le_of_ble_eq_true rfl)) (Nat.le_of_ble_eq_true rfl) rfl (vm_X2_number_2 hp hc55) rfl (rOk.of rfl) ?_
                cases h
                cases (show _ = (d', r) from K)
                exact v_leave F hT (PB.ob (ob_X2_1 hX hp (v := 11)) hX (Nat.le_of_ble_eq_true rfl))
              refine v_callXv (c := 2) F dX2_clause_173 cl_X2_278 rfl (PB.ob hp hX (Nat.le_of_ble_eq_true rfl)) (Nat.le_of_ble_eq_true rfl) rfl (vm_X2_number_2 hp hc55) rfl (rOk.of rfl) ?_
              obtain ⟨d58, ed58, h⟩ := sd_some h
              refine pf_X2_411 F dX2_clause_176 x51p ?_
              refine v_nD ed58 ?_
              refine v_goto F dX2_clause_179 rfl ?_
              cases h
              cases (show _ = (d', r) from K)
              refine v_xret ?_
              exact v_vret F dX2_clause_206
          · rw [if_neg hq39] at h
            by_cases hq59 : v2 = 5
            · rw [if_pos hq59] at h
              refine v_tableIn F dX2_clause_52 hq59 (by decide) (by decide) rfl rfl ?_
              refine v_aload_n F dX2_clause_182 rfl rfl ?_
              obtain ⟨x60, ex60, h⟩ := lv_some h
              obtain ⟨hn62, h⟩ := ck_some h
              refine gf_X2_263 F dX2_clause_183 hp ex60 fun hr61 => ?_
              have x60p := hr61.resolve_left hn62
              refine v_aload_n F dX2_clause_186 rfl rfl ?_
              refine v_iconst F dX2_clause_187 ⟨by decide, by decide⟩ ?_
              refine v_iconst F dX2_clause_188 ⟨by decide, by decide⟩ ?_
              obtain ⟨d63, x65o, hc64, ho66⟩ := bx_some h
              clear h
              rcases ho66 with ⟨rfl, h⟩ | ⟨x65, rfl, h⟩
              · refine v_callXt (c := 2) F dX2_clause_189 cl_X2_278 rfl (PB.ob hp hX (Nat.le_of_ble_eq_true rfl)) (Nat.le_of_ble_eq_true rfl) rfl (vm_X2_number_2 hp hc64) rfl (rOk.of rfl) ?_
                cases h
                cases (show _ = (d', r) from K)
                exact v_leave F hT (PB.ob (ob_X2_1 hX hp (v := 11)) hX (Nat.le_of_ble_eq_true rfl))
              refine v_callXv (c := 2) F dX2_clause_189 cl_X2_278 rfl (PB.ob hp hX (Nat.le_of_ble_eq_true rfl)) (Nat.le_of_ble_eq_true rfl) rfl (vm_X2_number_2 hp hc64) rfl (rOk.of rfl) ?_
              obtain ⟨d67, ed67, h⟩ := sd_some h
              refine pf_X2_414 F dX2_clause_192 x60p ?_
              refine v_nD ed67 ?_
              refine v_goto F dX2_clause_195 rfl ?_
              cases h
              cases (show _ = (d', r) from K)
              refine v_xret ?_
              exact v_vret F dX2_clause_206
            · rw [if_neg hq59] at h
              refine v_tableOut F dX2_clause_52 (by omega) rfl ?_
              refine v_aload_n F dX2_clause_198 rfl rfl ?_
              obtain ⟨x68, ex68, h⟩ := lv_some h
              obtain ⟨hn70, h⟩ := ck_some h
              refine gf_X2_263 F dX2_clause_199 hp ex68 fun hr69 => ?_
              have x68p := hr69.resolve_left hn70
              refine v_iconst F dX2_clause_202 ⟨by decide, by decide⟩ ?_
              obtain ⟨d71, ed71, h⟩ := sd_some h
              refine pf_X2_417 F dX2_clause_203 x68p (Or.inr rfl) ?_
              refine v_nD ed71 ?_
              cases h
              cases (show _ = (d', r) from K)
              refine v_xret ?_
              exact v_vret F dX2_clause_206
theorem vm_X2_clause {w : Wd} {l : Launch} {d m : Dt} {d' : Dt} {r : Option Int} (hp : PB m 10 2) (h : fX2_clause d = some (d', r)) : VMX w l WF yX2_clause cX2_clause 3 none 14 314 d m [mA 10] (r.map fun _ => none) d' m := by
  obtain ⟨x, h, K⟩ : ∃ x, fX2_clause d = some x ∧ x = (d', r) := ⟨_, h, rfl⟩
  refine VMX.of (L := [mA 10, mU, mU]) (by decide +kernel) rfl (Nat.le_of_ble_eq_true rfl) fun G F hT => v_fact fun _ hX _ _ => ?_
  unfold fX2_clause at h
  refine v_aload_n F dX2_clause_0 rfl rfl ?_
  refine gf_X2_150 F dX2_clause_1 hp ?_
  obtain ⟨x1, ex1, h⟩ := lv_some h
  refine v_nI ex1 ?_
  refine v_istore_n F dX2_clause_4 rfl (Nat.le_of_ble_eq_true rfl) (L' := [mA 10, mI x1, mU]) rfl ?_
  refine v_aload_n F dX2_clause_5 rfl rfl ?_
  refine v_iconst F dX2_clause_6 ⟨by decide, by decide⟩ ?_
  refine v_bipush F dX2_clause_7 rfl ⟨by decide, by decide⟩ ?_
  obtain ⟨d2, x4o, hc3, ho5⟩ := bx_some h
  clear h
  rcases ho5 with ⟨rfl, h⟩ | ⟨x4, rfl, h⟩
  · refine v_callXt (c := 2) F dX2_clause_9 cl_X2_222 rfl (PB.ob hp hX (Nat.le_of_ble_eq_true rfl)) (Nat.le_of_ble_eq_true rfl) rfl (vm_X2_oneOf hp hc3) rfl (rOk.of rfl) ?_
    cases h
    cases (show _ = (d', r) from K)
    exact v_leave F hT (PB.ob (ob_X2_1 hX hp (v := 11)) hX (Nat.le_of_ble_eq_true rfl))
  refine v_callXv (c := 2) F dX2_clause_9 cl_X2_222 rfl (PB.ob hp hX (Nat.le_of_ble_eq_true rfl)) (Nat.le_of_ble_eq_true rfl) rfl (vm_X2_oneOf hp hc3) rfl (rOk.of rfl) ?_
  refine v_istore_n F dX2_clause_12 rfl (Nat.le_of_ble_eq_true rfl) (L' := [mA 10, mI x1, mI x4]) rfl ?_
  refine v_iload_n F dX2_clause_13 rfl rfl ?_
  refine v_bipush F dX2_clause_14 rfl ⟨by decide, by decide⟩ ?_
  refine v_icmp_ne F dX2_clause_16 rfl (fun hq6 => ?_) (fun hq6 => ?_)
  · rw [if_neg hq6] at h
    refine v_aload_n F dX2_clause_25 rfl rfl ?_
    refine v_aload_n F dX2_clause_26 rfl rfl ?_
    refine gf_X2_18 F dX2_clause_27 hp (v := 12) rfl ?_
    refine v_iload_n F dX2_clause_30 rfl rfl ?_
    obtain ⟨hi7, h⟩ := ck_some h
    refine v_zald F dX2_clause_31 (ar_X2_11 hX hp) hi7 ?_
    refine v_if_ne F dX2_clause_32 rfl (fun hq8 => ?_) (fun hq8 => ?_)
    · rw [if_neg hq8] at h
      refine v_iconst F dX2_clause_39 ⟨by decide, by decide⟩ ?_
      exact fX2_clause_40_ok F hX hT hp h K
    · rw [if_pos hq8] at h
      refine v_iconst F dX2_clause_35 ⟨by decide, by decide⟩ ?_
      refine v_goto F dX2_clause_36 rfl ?_
      exact fX2_clause_40_ok F hX hT hp h K
  · rw [if_pos hq6] at h
    refine v_aload_n F dX2_clause_19 rfl rfl ?_
    refine v_iload_n F dX2_clause_20 rfl rfl ?_
    obtain ⟨d72, x74o, hc73, ho75⟩ := bx_some h
    clear h
    rcases ho75 with ⟨rfl, h⟩ | ⟨x74, rfl, h⟩
    · refine v_callXt (c := 2) F dX2_clause_21 cl_X2_390 rfl (PB.ob hp hX (Nat.le_of_ble_eq_true rfl)) (Nat.le_of_ble_eq_true rfl) rfl (vm_X2_contest hp hc73) rfl (rOk.of rfl) ?_
      cases h
      cases (show _ = (d', r) from K)
      exact v_leave F hT (PB.ob (ob_X2_1 hX hp (v := 11)) hX (Nat.le_of_ble_eq_true rfl))
    refine v_callX0 (c := 2) F dX2_clause_21 cl_X2_390 rfl (PB.ob hp hX (Nat.le_of_ble_eq_true rfl)) (Nat.le_of_ble_eq_true rfl) rfl (vm_X2_contest hp hc73) rfl (rOk.of rfl) ?_
    cases h
    cases (show _ = (d', r) from K)
    refine v_xret ?_
    exact v_vret F dX2_clause_24
def fX2_all_4P (w : Wd) (l : Launch) (G : Cx) (Q : State → Prop) (m : Dt) (s : Dt) : Prop := V w l WF G Q s m 0 0 4 [mA 10] []
theorem fX2_all_49_ok {w : Wd} {l : Launch} {G : Cx} {d m dd : Dt} {s1 : Int} {d' : Dt} {r : Option Int} {x : (Dt × Option Int)} (F : Fx w G cX2_all RX2 1 none { frames := 15, cells := 0, slots := 0, locals := 336 }) (hX : WF dd m) (hT : NoT G) (hp : PB m 10 2) (h : fX2_all_49 d s1 = some x) (K : (fun q => q = (d', r)) x) : V w l WF G (QX w G WF (r.map fun _ => none) d' m) d m 0 0 49 [mA 10] [mI s1, mA 10] := by
  unfold fX2_all_49 at h
  refine v_aload_n F dX2_all_49 rfl rfl ?_
  refine gf_X2_160 F dX2_all_50 hp ?_
  obtain ⟨d5, hc6, h⟩ := bd_some h
  refine v_callV0 (c := 2) F dX2_all_53 cv_X2_215 rfl (PB.ob hp hX (Nat.le_of_ble_eq_true rfl)) (Nat.le_of_ble_eq_true rfl) rfl (vm_X2_note hp hc6) rfl (rOk.of rfl) ?_
  cases h
  cases (show _ = (d', r) from K)
  refine v_xret ?_
  exact v_vret F dX2_all_56
theorem fX2_all_4f_ok {w : Wd} {l : Launch} {G : Cx} {m dd : Dt} {d' : Dt} {r : Option Int} {s : Dt} {x : ((Dt) ⊕ (Dt × Option Int))} (F : Fx w G cX2_all RX2 1 none { frames := 15, cells := 0, slots := 0, locals := 336 }) (hX : WF dd m) (hT : NoT G) (hp : PB m 10 2) (h : fX2_all_4f s = some x) (K : (Sum.elim (fX2_all_4P w l G (QX w G WF (r.map fun _ => none) d' m) m) (fun q => q = (d', r))) x) : V w l WF G (QX w G WF (r.map fun _ => none) d' m) s m 0 0 4 [mA 10] [] := by
  obtain ⟨d, rfl⟩ : ∃ z, z = s := ⟨s, rfl⟩
  unfold fX2_all_4f at h
  dsimp only at h
  refine v_aload_n F dX2_all_4 rfl rfl ?_
  refine gf_X2_193 F dX2_all_5 hp ?_
  refine v_if_eq F dX2_all_8 rfl (fun hq3 => ?_) (fun hq3 => ?_)
  · rw [if_pos hq3] at h
    obtain ⟨z, hu, ez⟩ := up_some h
    clear h
    subst ez
    have h := hu
    clear hu
    refine v_aload_n F dX2_all_24 rfl rfl ?_
    refine v_aload_n F dX2_all_25 rfl rfl ?_
    refine gf_X2_18 F dX2_all_26 hp (v := 12) rfl ?_
    refine v_iconst F dX2_all_29 ⟨by decide, by decide⟩ ?_
    refine v_zald F dX2_all_30 (ar_X2_11 hX hp) ⟨by decide, by decide⟩ ?_
    refine v_if_eq F dX2_all_31 rfl (fun hq4 => ?_) (fun hq4 => ?_)
    · rw [if_pos hq4] at h
      refine v_iconst F dX2_all_48 ⟨by decide, by decide⟩ ?_
      exact fX2_all_49_ok F hX hT hp h K
    · rw [if_neg hq4] at h
      refine v_aload_n F dX2_all_34 rfl rfl ?_
      obtain ⟨x7, ex7, h⟩ := lv_some h
      obtain ⟨hn9, h⟩ := ck_some h
      refine gf_X2_263 F dX2_all_35 hp ex7 fun hr8 => ?_
      have x7p := hr8.resolve_left hn9
      refine gf_X2_346 F dX2_all_38 x7p ?_
      refine v_if_le F dX2_all_41 rfl (fun hq10 => ?_) (fun hq10 => ?_)
      · rw [if_pos hq10] at h
        refine v_iconst F dX2_all_48 ⟨by decide, by decide⟩ ?_
        exact fX2_all_49_ok F hX hT hp h K
      · rw [if_neg hq10] at h
        refine v_iconst F dX2_all_44 ⟨by decide, by decide⟩ ?_
        refine v_goto F dX2_all_45 rfl ?_
        exact fX2_all_49_ok F hX hT hp h K
  · rw [if_neg hq3] at h
    refine v_aload_n F dX2_all_11 rfl rfl ?_
    obtain ⟨d11, x13o, hc12, ho14⟩ := bx_some h
    clear h
    rcases ho14 with ⟨rfl, h⟩ | ⟨x13, rfl, h⟩
    · refine v_callXt (c := 2) F dX2_all_12 cl_X2_431 rfl (PB.ob hp hX (Nat.le_of_ble_eq_true rfl)) (Nat.le_of_ble_eq_true rfl) rfl (vm_X2_clause hp hc12) rfl (rOk.of rfl) ?_
      cases h
      cases (show _ = (d', r) from K)
      exact v_leave F hT (PB.ob (ob_X2_1 hX hp (v := 11)) hX (Nat.le_of_ble_eq_true rfl))
    refine v_callX0 (c := 2) F dX2_all_12 cl_X2_431 rfl (PB.ob hp hX (Nat.le_of_ble_eq_true rfl)) (Nat.le_of_ble_eq_true rfl) rfl (vm_X2_clause hp hc12) rfl (rOk.of rfl) ?_
    refine v_aload_n F dX2_all_15 rfl rfl ?_
    refine v_bipush F dX2_all_16 rfl ⟨by decide, by decide⟩ ?_
    obtain ⟨d15, x17o, hc16, ho18⟩ := bx_some h
    clear h
    rcases ho18 with ⟨rfl, h⟩ | ⟨x17, rfl, h⟩
    · refine v_callXt (c := 2) F dX2_all_18 cl_X2_244 rfl (PB.ob hp hX (Nat.le_of_ble_eq_true rfl)) (Nat.le_of_ble_eq_true rfl) rfl (vm_X2_sign hp hc16) rfl (rOk.of rfl) ?_
      cases h
      cases (show _ = (d', r) from K)
      exact v_leave F hT (PB.ob (ob_X2_1 hX hp (v := 11)) hX (Nat.le_of_ble_eq_true rfl))
    refine v_callX0 (c := 2) F dX2_all_18 cl_X2_244 rfl (PB.ob hp hX (Nat.le_of_ble_eq_true rfl)) (Nat.le_of_ble_eq_true rfl) rfl (vm_X2_sign hp hc16) rfl (rOk.of rfl) ?_
    refine v_goto F dX2_all_21 rfl ?_
    cases h
    exact K
theorem fX2_all_4_ok {w : Wd} {l : Launch} {G : Cx} {d m dd : Dt} {d' : Dt} {r : Option Int} {x : (Dt × Option Int)} (F : Fx w G cX2_all RX2 1 none { frames := 15, cells := 0, slots := 0, locals := 336 }) (hX : WF dd m) (hT : NoT G) (hp : PB m 10 2) (h : fX2_all_4 d = some x) (K : (fun q => q = (d', r)) x) : V w l WF G (QX w G WF (r.map fun _ => none) d' m) d m 0 0 4 [mA 10] [] := by
  unfold fX2_all_4 at h
  exact loop_ok (P := fX2_all_4P w l G (QX w G WF (r.map fun _ => none) d' m) m) (fun s x hx h1 h2 => fX2_all_4f_ok F hX hT hp hx (by
    cases x with
    | inl s' => exact h1 s' rfl
    | inr z => cases h2 z rfl; exact K)) h
theorem vm_X2_all {w : Wd} {l : Launch} {d m : Dt} {d' : Dt} {r : Option Int} (hp : PB m 10 2) (h : fX2_all d = some (d', r)) : VMX w l WF yX2_all cX2_all 1 none 15 336 d m [mA 10] (r.map fun _ => none) d' m := by
  obtain ⟨x, h, K⟩ : ∃ x, fX2_all d = some x ∧ x = (d', r) := ⟨_, h, rfl⟩
  refine VMX.of (L := [mA 10]) (by decide +kernel) rfl (Nat.le_of_ble_eq_true rfl) fun G F hT => v_fact fun _ hX _ _ => ?_
  unfold fX2_all at h
  refine v_aload_n F dX2_all_0 rfl rfl ?_
  obtain ⟨d1, hc2, h⟩ := bd_some h
  refine v_callV0 (c := 2) F dX2_all_1 cv_X2_209 rfl (PB.ob hp hX (Nat.le_of_ble_eq_true rfl)) (Nat.le_of_ble_eq_true rfl) rfl (vm_X2_take hp hc2) rfl (rOk.of rfl) ?_
  exact fX2_all_4_ok F hX hT hp h K
theorem vm_X2_read {w : Wd} {l : Launch} {d m : Dt} {a1 a2 : Int} {d' : Dt} {r : Int} (hp : PB m 10 2) (hp1 : PB m a1 4) (h : fX2_read d a1 a2 = some (d', r)) : VMW w l WF yX2_read cX2_read 4 (some .int) 16 356 d m [mA 10, mA a1, mI a2] (some (mI r)) d' m := by
  obtain ⟨x, h, K⟩ : ∃ x, fX2_read d a1 a2 = some x ∧ x = (d', r) := ⟨_, h, rfl⟩
  refine VMW.of (L := [mA 10, mA a1, mI a2, mU]) (by decide +kernel) rfl (Nat.le_of_ble_eq_true rfl) fun G F hT => v_fact fun _ hX _ _ => ?_
  unfold fX2_read at h
  refine v_aload_n F dX2_read_0 rfl rfl ?_
  refine v_aload_n F dX2_read_1 rfl rfl ?_
  obtain ⟨d1, ed1, h⟩ := sd_some h
  refine pf_X2_263 F dX2_read_2 hp (Or.inr hp1) ?_
  refine v_nD ed1 ?_
  refine v_aload_n F dX2_read_5 rfl rfl ?_
  refine v_iload_n F dX2_read_6 rfl rfl ?_
  obtain ⟨d2, ed2, h⟩ := sd_some h
  refine pf_X2_160 F dX2_read_7 hp ?_
  refine v_nD ed2 ?_
  refine v_aload_n F dX2_read_10 rfl rfl ?_
  obtain ⟨x3, ex3, h⟩ := lv_some h
  obtain ⟨hn5, h⟩ := ck_some h
  refine gf_X2_263 F dX2_read_11 hp ex3 fun hr4 => ?_
  have x3p := hr4.resolve_left hn5
  obtain ⟨d6, hc7, h⟩ := bd_some h
  refine v_callV0 (c := 4) F dX2_read_14 cv_X2_420 rfl (PB.ob x3p hX (Nat.le_of_ble_eq_true rfl)) (Nat.le_of_ble_eq_true rfl) rfl (vm_X4_begin x3p hc7) rfl (rOk.of rfl) ?_
  refine v_aload_n F dX2_read_17 rfl rfl ?_
  refine v_iconst F dX2_read_18 ⟨by decide, by decide⟩ ?_
  obtain ⟨d8, ed8, h⟩ := sd_some h
  refine pf_X2_167 F dX2_read_19 hp ?_
  refine v_nD ed8 ?_
  refine v_aload_n F dX2_read_22 rfl rfl ?_
  refine v_iconst F dX2_read_23 ⟨by decide, by decide⟩ ?_
  obtain ⟨d9, ed9, h⟩ := sd_some h
  refine pf_X2_157 F dX2_read_24 hp ?_
  refine v_nD ed9 ?_
  refine v_aload_n F dX2_read_27 rfl rfl ?_
  refine v_iconst F dX2_read_28 ⟨by decide, by decide⟩ ?_
  obtain ⟨d10, ed10, h⟩ := sd_some h
  refine pf_X2_280 F dX2_read_29 hp ?_
  refine v_nD ed10 ?_
  refine v_aload_n F dX2_read_32 rfl rfl ?_
  refine v_iconst F dX2_read_33 ⟨by decide, by decide⟩ ?_
  obtain ⟨d11, ed11, h⟩ := sd_some h
  refine pf_X2_387 F dX2_read_34 hp (Or.inl rfl) ?_
  refine v_nD ed11 ?_
  refine v_aload_n F dX2_read_37 rfl rfl ?_
  refine gf_X2_18 F dX2_read_38 hp (v := 12) rfl ?_
  refine v_iconst F dX2_read_41 ⟨by decide, by decide⟩ ?_
  obtain ⟨d12, hc13, h⟩ := bd_some h
  refine v_callS0 F dX2_read_42 cs_X2_422 rfl (vm_J4_fill (ar_X2_11 hX hp) hc13) rfl (rOk.of rfl) ?_
  refine v_aload_n F dX2_read_45 rfl rfl ?_
  obtain ⟨d14, x16o, hc15, ho17⟩ := bx_some h
  clear h
  rcases ho17 with ⟨rfl, h⟩ | ⟨x16, rfl, h⟩
  · refine v_callXt (c := 2) F dX2_read_46 cl_X2_428 rfl (PB.ob hp hX (Nat.le_of_ble_eq_true rfl)) (Nat.le_of_ble_eq_true rfl) rfl (vm_X2_all hp hc15) rfl (rOk.of rfl) ?_
    refine v_catch F hT (PB.ob (ob_X2_1 hX hp (v := 11)) hX (Nat.le_of_ble_eq_true rfl)) ?_
    refine v_astore_n F dX2_read_52 rfl (Nat.le_of_ble_eq_true rfl) (L' := [mA 10, mA a1, mI a2, mA 11]) rfl ?_
    refine v_aload_n F dX2_read_53 rfl rfl ?_
    refine gf_X2_154 F dX2_read_54 (ob_X2_1 hX hp (v := 11)) ?_
    cases h
    cases (show _ = (d', r) from K)
    exact v_iret F dX2_read_57
  refine v_callX0 (c := 2) F dX2_read_46 cl_X2_428 rfl (PB.ob hp hX (Nat.le_of_ble_eq_true rfl)) (Nat.le_of_ble_eq_true rfl) rfl (vm_X2_all hp hc15) rfl (rOk.of rfl) ?_
  refine v_goto F dX2_read_49 rfl ?_
  refine v_aload_n F dX2_read_58 rfl rfl ?_
  refine gf_X2_157 F dX2_read_59 hp ?_
  cases h
  cases (show _ = (d', r) from K)
  exact v_iret F dX2_read_62
theorem vm_X9_begin {w : Wd} {l : Launch} {d m : Dt} {o : Int} {d' : Dt} (hp : PB m o 9) (h : fX9_begin d o = some d') : VM w l WF yX9_begin cX9_begin 1 none 0 0 0 0 d m [mA o] none d' m := by
  obtain ⟨x, h, K⟩ : ∃ x, fX9_begin d o = some x ∧ x = d' := ⟨_, h, rfl⟩
  refine VM.of (L := [mA o]) (by decide +kernel) rfl (Nat.le_of_ble_eq_true rfl) fun G F _ => v_fact fun _ hX _ _ => ?_
  unfold fX9_begin at h
  refine v_aload_n F dX9_begin_0 rfl rfl ?_
  refine v_iconst F dX9_begin_1 ⟨by decide, by decide⟩ ?_
  obtain ⟨d1, ed1, h⟩ := sd_some h
  refine pf_X9_34 F dX9_begin_2 hp ?_
  refine v_nD ed1 ?_
  refine v_aload_n F dX9_begin_5 rfl rfl ?_
  refine v_iconst F dX9_begin_6 ⟨by decide, by decide⟩ ?_
  obtain ⟨d2, ed2, h⟩ := sd_some h
  refine pf_X9_38 F dX9_begin_7 hp ?_
  refine v_nD ed2 ?_
  refine v_aload_n F dX9_begin_10 rfl rfl ?_
  refine v_iconst F dX9_begin_11 ⟨by decide, by decide⟩ ?_
  obtain ⟨d3, ed3, h⟩ := sd_some h
  refine pf_X9_41 F dX9_begin_12 hp (Or.inl rfl) ?_
  refine v_nD ed3 ?_
  cases h
  cases (show _ = d' from K)
  exact v_vret F dX9_begin_15
theorem vm_X10_begin {w : Wd} {l : Launch} {d m : Dt} {o : Int} {d' : Dt} (hp : PB m o 10) (h : fX10_begin d o = some d') : VM w l WF yX10_begin cX10_begin 1 none 0 0 0 0 d m [mA o] none d' m := by
  obtain ⟨x, h, K⟩ : ∃ x, fX10_begin d o = some x ∧ x = d' := ⟨_, h, rfl⟩
  refine VM.of (L := [mA o]) (by decide +kernel) rfl (Nat.le_of_ble_eq_true rfl) fun G F _ => v_fact fun _ hX _ _ => ?_
  unfold fX10_begin at h
  refine v_aload_n F dX10_begin_0 rfl rfl ?_
  refine v_iconst F dX10_begin_1 ⟨by decide, by decide⟩ ?_
  obtain ⟨d1, ed1, h⟩ := sd_some h
  refine pf_X10_23 F dX10_begin_2 hp ?_
  refine v_nD ed1 ?_
  refine v_aload_n F dX10_begin_5 rfl rfl ?_
  refine v_iconst F dX10_begin_6 ⟨by decide, by decide⟩ ?_
  obtain ⟨d2, ed2, h⟩ := sd_some h
  refine pf_X10_27 F dX10_begin_7 hp (Or.inl rfl) ?_
  refine v_nD ed2 ?_
  refine v_aload_n F dX10_begin_10 rfl rfl ?_
  refine v_iconst F dX10_begin_11 ⟨by decide, by decide⟩ ?_
  obtain ⟨d3, ed3, h⟩ := sd_some h
  refine pf_X10_31 F dX10_begin_12 hp (Or.inl rfl) ?_
  refine v_nD ed3 ?_
  cases h
  cases (show _ = d' from K)
  exact v_vret F dX10_begin_15
def fX0_begin_7P (w : Wd) (l : Launch) (G : Cx) (Q : State → Prop) (m : Dt) (s : Dt × Int) : Prop := V w l WF G Q s.1 m 0 0 7 [mA 1, mI (s.2)] []
def fX0_begin_76P (w : Wd) (l : Launch) (G : Cx) (Q : State → Prop) (m : Dt) (s : Dt × Int) : Prop := V w l WF G Q s.1 m 0 0 76 [mA 1, mI (s.2)] []
theorem fX0_begin_76f_ok {w : Wd} {l : Launch} {G : Cx} {m dd : Dt} {d' : Dt} {s : Dt × Int} {x : ((Dt × Int) ⊕ Dt)} (F : Fx w G cX0_begin RX0 2 none { frames := 1, cells := 0, slots := 0, locals := 23 }) (hX : WF dd m) (hp : PB m 1 0) (h : fX0_begin_76f s = some x) (K : (Sum.elim (fX0_begin_76P w l G (QM w G WF none d' m 0 0) m) (fun q => q = d')) x) : V w l WF G (QM w G WF none d' m 0 0) s.1 m 0 0 76 [mA 1, mI (s.2)] [] := by
  obtain ⟨d, v1⟩ := s
  unfold fX0_begin_76f at h
  dsimp only at h
  refine v_iload_n F dX0_begin_76 rfl rfl ?_
  refine v_bipush F dX0_begin_77 rfl ⟨by decide, by decide⟩ ?_
  refine v_icmp_gt F dX0_begin_79 rfl (fun hq13 => ?_) (fun hq13 => ?_)
  · rw [if_pos hq13] at h
    obtain ⟨z, hu, ez⟩ := up_some h
    clear h
    subst ez
    have h := hu
    clear hu
    refine v_aload_n F dX0_begin_97 rfl rfl ?_
    refine v_iconst F dX0_begin_98 ⟨by decide, by decide⟩ ?_
    obtain ⟨d14, ed14, h⟩ := sd_some h
    refine pf_X0_287 F dX0_begin_99 hp (Or.inl rfl) ?_
    refine v_nD ed14 ?_
    refine v_aload_n F dX0_begin_102 rfl rfl ?_
    refine v_iconst F dX0_begin_103 ⟨by decide, by decide⟩ ?_
    obtain ⟨d15, ed15, h⟩ := sd_some h
    refine pf_X0_290 F dX0_begin_104 hp ?_
    refine v_nD ed15 ?_
    cases h
    cases (show _ = d' from K)
    exact v_vret F dX0_begin_107
  · rw [if_neg hq13] at h
    refine v_aload_n F dX0_begin_82 rfl rfl ?_
    refine gf_X0_120 F dX0_begin_83 hp (v := 78) rfl ?_
    refine v_iload_n F dX0_begin_86 rfl rfl ?_
    obtain ⟨hi16, h⟩ := ck_some h
    refine v_aaldF (c := 0) (k := 34) F dX0_begin_87 hp (Nat.le_of_ble_eq_true rfl) (Nat.le_of_ble_eq_true rfl) (by decide) (by decide) rfl (ar_X0_34 hX hp) (Nat.le_of_ble_eq_true rfl) rfl rfl rfl rfl hi16 (v := (677 + 124 * v1)) (by show 1 + 676 + 124 * v1 = _; omega) ?_
    obtain ⟨d17, hc18, h⟩ := bd_some h
    refine v_callV0 (c := 10) F dX0_begin_88 cv_X0_286 rfl (PB.ob (ae_X0_34 (i := v1) hX hp hi16 (v := (677 + 124 * v1)) (by omega)) hX (Nat.le_of_ble_eq_true rfl)) (Nat.le_of_ble_eq_true rfl) rfl (vm_X10_begin (ae_X0_34 (i := v1) hX hp hi16 (v := (677 + 124 * v1)) (by omega)) hc18) rfl (rOk.of rfl) ?_
    obtain ⟨x19, ex19, h⟩ := lv_some h
    refine v_iincN F dX0_begin_91 (Nat.le_of_ble_eq_true rfl) rfl ex19 (L' := [mA 1, mI x19]) rfl ?_
    refine v_goto F dX0_begin_94 rfl ?_
    cases h
    exact K
theorem fX0_begin_76_ok {w : Wd} {l : Launch} {G : Cx} {d m dd : Dt} {v1 : Int} {d' : Dt} {x : Dt} (F : Fx w G cX0_begin RX0 2 none { frames := 1, cells := 0, slots := 0, locals := 23 }) (hX : WF dd m) (hp : PB m 1 0) (h : fX0_begin_76 d v1 = some x) (K : (fun q => q = d') x) : V w l WF G (QM w G WF none d' m 0 0) d m 0 0 76 [mA 1, mI v1] [] := by
  unfold fX0_begin_76 at h
  exact loop_ok (P := fX0_begin_76P w l G (QM w G WF none d' m 0 0) m) (fun s x hx h1 h2 => fX0_begin_76f_ok F hX hp hx (by
    cases x with
    | inl s' => exact h1 s' rfl
    | inr z => cases h2 z rfl; exact K)) h
theorem fX0_begin_7f_ok {w : Wd} {l : Launch} {G : Cx} {m dd : Dt} {d' : Dt} {s : Dt × Int} {x : ((Dt × Int) ⊕ Dt)} (F : Fx w G cX0_begin RX0 2 none { frames := 1, cells := 0, slots := 0, locals := 23 }) (hX : WF dd m) (hp : PB m 1 0) (h : fX0_begin_7f s = some x) (K : (Sum.elim (fX0_begin_7P w l G (QM w G WF none d' m 0 0) m) (fun q => q = d')) x) : V w l WF G (QM w G WF none d' m 0 0) s.1 m 0 0 7 [mA 1, mI (s.2)] [] := by
  obtain ⟨d, v1⟩ := s
  unfold fX0_begin_7f at h
  dsimp only at h
  refine v_iload_n F dX0_begin_7 rfl rfl ?_
  refine v_bipush F dX0_begin_8 rfl ⟨by decide, by decide⟩ ?_
  refine v_icmp_ge F dX0_begin_10 rfl (fun hq2 => ?_) (fun hq2 => ?_)
  · rw [if_pos hq2] at h
    obtain ⟨z, hu, ez⟩ := up_some h
    clear h
    subst ez
    have h := hu
    clear hu
    refine v_aload_n F dX0_begin_28 rfl rfl ?_
    refine v_iconst F dX0_begin_29 ⟨by decide, by decide⟩ ?_
    obtain ⟨d3, ed3, h⟩ := sd_some h
    refine pf_X0_262 F dX0_begin_30 hp ?_
    refine v_nD ed3 ?_
    refine v_aload_n F dX0_begin_33 rfl rfl ?_
    refine v_iconst F dX0_begin_34 ⟨by decide, by decide⟩ ?_
    obtain ⟨d4, ed4, h⟩ := sd_some h
    refine pf_X0_265 F dX0_begin_35 hp (Or.inl rfl) ?_
    refine v_nD ed4 ?_
    refine v_aload_n F dX0_begin_38 rfl rfl ?_
    refine v_iconst F dX0_begin_39 ⟨by decide, by decide⟩ ?_
    obtain ⟨d5, ed5, h⟩ := sd_some h
    refine pf_X0_268 F dX0_begin_40 hp ?_
    refine v_nD ed5 ?_
    refine v_aload_n F dX0_begin_43 rfl rfl ?_
    refine v_iconst F dX0_begin_44 ⟨by decide, by decide⟩ ?_
    obtain ⟨d6, ed6, h⟩ := sd_some h
    refine pf_X0_271 F dX0_begin_45 hp ?_
    refine v_nD ed6 ?_
    refine v_aload_n F dX0_begin_48 rfl rfl ?_
    refine v_iconst F dX0_begin_49 ⟨by decide, by decide⟩ ?_
    obtain ⟨d7, ed7, h⟩ := sd_some h
    refine pf_X0_274 F dX0_begin_50 hp ?_
    refine v_nD ed7 ?_
    refine v_aload_n F dX0_begin_53 rfl rfl ?_
    refine v_iconst F dX0_begin_54 ⟨by decide, by decide⟩ ?_
    obtain ⟨d8, ed8, h⟩ := sd_some h
    refine pf_X0_277 F dX0_begin_55 hp ?_
    refine v_nD ed8 ?_
    refine v_aload_n F dX0_begin_58 rfl rfl ?_
    refine gf_X0_72 F dX0_begin_59 hp (v := 59) rfl ?_
    refine v_iconst F dX0_begin_62 ⟨by decide, by decide⟩ ?_
    obtain ⟨d9, hc10, h⟩ := bd_some h
    refine v_callS0 F dX0_begin_63 cs_X0_280 rfl (vm_J4_fill_2 (ar_X0_16 hX hp) hc10) rfl (rOk.of rfl) ?_
    refine v_aload_n F dX0_begin_66 rfl rfl ?_
    refine gf_X0_86 F dX0_begin_67 hp (v := 63) rfl ?_
    refine v_iconst F dX0_begin_70 ⟨by decide, by decide⟩ ?_
    obtain ⟨d11, hc12, h⟩ := bd_some h
    refine v_callS0 F dX0_begin_71 cs_X0_280 rfl (vm_J4_fill_2 (ar_X0_22 hX hp) hc12) rfl (rOk.of rfl) ?_
    refine v_iconst F dX0_begin_74 ⟨by decide, by decide⟩ ?_
    refine v_istore_n F dX0_begin_75 rfl (Nat.le_of_ble_eq_true rfl) (L' := [mA 1, mI 0]) rfl ?_
    exact fX0_begin_76_ok F hX hp h K
  · rw [if_neg hq2] at h
    refine v_aload_n F dX0_begin_13 rfl rfl ?_
    refine gf_X0_62 F dX0_begin_14 hp (v := 57) rfl ?_
    refine v_iload_n F dX0_begin_17 rfl rfl ?_
    obtain ⟨hi20, h⟩ := ck_some h
    refine v_aaldF (c := 0) (k := 13) F dX0_begin_18 hp (Nat.le_of_ble_eq_true rfl) (Nat.le_of_ble_eq_true rfl) (by decide) (by decide) rfl (ar_X0_13 hX hp) (Nat.le_of_ble_eq_true rfl) rfl rfl rfl rfl hi20 (v := (629 + 8 * v1)) (by show 1 + 628 + 8 * v1 = _; omega) ?_
    obtain ⟨d21, hc22, h⟩ := bd_some h
    refine v_callV0 (c := 9) F dX0_begin_19 cv_X0_261 rfl (PB.ob (ae_X0_13 (i := v1) hX hp hi20 (v := (629 + 8 * v1)) (by omega)) hX (Nat.le_of_ble_eq_true rfl)) (Nat.le_of_ble_eq_true rfl) rfl (vm_X9_begin (ae_X0_13 (i := v1) hX hp hi20 (v := (629 + 8 * v1)) (by omega)) hc22) rfl (rOk.of rfl) ?_
    obtain ⟨x23, ex23, h⟩ := lv_some h
    refine v_iincN F dX0_begin_22 (Nat.le_of_ble_eq_true rfl) rfl ex23 (L' := [mA 1, mI x23]) rfl ?_
    refine v_goto F dX0_begin_25 rfl ?_
    cases h
    exact K
theorem fX0_begin_7_ok {w : Wd} {l : Launch} {G : Cx} {d m dd : Dt} {v1 : Int} {d' : Dt} {x : Dt} (F : Fx w G cX0_begin RX0 2 none { frames := 1, cells := 0, slots := 0, locals := 23 }) (hX : WF dd m) (hp : PB m 1 0) (h : fX0_begin_7 d v1 = some x) (K : (fun q => q = d') x) : V w l WF G (QM w G WF none d' m 0 0) d m 0 0 7 [mA 1, mI v1] [] := by
  unfold fX0_begin_7 at h
  exact loop_ok (P := fX0_begin_7P w l G (QM w G WF none d' m 0 0) m) (fun s x hx h1 h2 => fX0_begin_7f_ok F hX hp hx (by
    cases x with
    | inl s' => exact h1 s' rfl
    | inr z => cases h2 z rfl; exact K)) h
theorem vm_X0_begin {w : Wd} {l : Launch} {d m : Dt} {d' : Dt} (hp : PB m 1 0) (h : fX0_begin d = some d') : VM w l WF yX0_begin cX0_begin 2 none 1 23 0 0 d m [mA 1] none d' m := by
  obtain ⟨x, h, K⟩ : ∃ x, fX0_begin d = some x ∧ x = d' := ⟨_, h, rfl⟩
  refine VM.of (L := [mA 1, mU]) (by decide +kernel) rfl (Nat.le_of_ble_eq_true rfl) fun G F _ => v_fact fun _ hX _ _ => ?_
  unfold fX0_begin at h
  refine v_aload_n F dX0_begin_0 rfl rfl ?_
  refine v_iconst F dX0_begin_1 ⟨by decide, by decide⟩ ?_
  obtain ⟨d1, ed1, h⟩ := sd_some h
  refine pf_X0_49 F dX0_begin_2 hp ?_
  refine v_nD ed1 ?_
  refine v_iconst F dX0_begin_5 ⟨by decide, by decide⟩ ?_
  refine v_istore_n F dX0_begin_6 rfl (Nat.le_of_ble_eq_true rfl) (L' := [mA 1, mI 0]) rfl ?_
  exact fX0_begin_7_ok F hX hp h K
theorem vm_X0_law {w : Wd} {l : Launch} {d m : Dt} {d' : Dt} {r : Int} (hp : PB m 1 0) (h : fX0_law d = some (d', r)) : VM w l WF yX0_law cX0_law 4 (some .int) 17 379 0 0 d m [mA 1] (some (mI r)) d' m := by
  obtain ⟨x, h, K⟩ : ∃ x, fX0_law d = some x ∧ x = (d', r) := ⟨_, h, rfl⟩
  refine VM.of (L := [mA 1, mU, mU, mU]) (by decide +kernel) rfl (Nat.le_of_ble_eq_true rfl) fun G F _ => v_fact fun _ hX _ _ => ?_
  unfold fX0_law at h
  refine v_aload_n F dX0_law_0 rfl rfl ?_
  refine gf_X0_160 F dX0_law_1 hp ?_
  obtain ⟨x1, ex1, h⟩ := lv_some h
  refine v_nI ex1 ?_
  refine v_istore_n F dX0_law_4 rfl (Nat.le_of_ble_eq_true rfl) (L' := [mA 1, mI x1, mU, mU]) rfl ?_
  refine v_aload_n F dX0_law_5 rfl rfl ?_
  refine v_iconst F dX0_law_6 ⟨by decide, by decide⟩ ?_
  obtain ⟨d2, ed2, h⟩ := sd_some h
  refine pf_X0_160 F dX0_law_7 hp ?_
  refine v_nD ed2 ?_
  refine v_aload_n F dX0_law_10 rfl rfl ?_
  refine gf_X0_35 F dX0_law_11 hp (v := 10) rfl ?_
  refine v_aload_n F dX0_law_14 rfl rfl ?_
  obtain ⟨x3, ex3, h⟩ := lv_some h
  obtain ⟨hn5, h⟩ := ck_some h
  refine gf_X0_46 F dX0_law_15 hp ex3 fun hr4 => ?_
  have x3p := hr4.resolve_left hn5
  refine v_iload_n F dX0_law_18 rfl rfl ?_
  obtain ⟨d6, x8, hc7, h⟩ := b2_some h
  refine v_callW (c := 2) F dX0_law_19 cr_X0_252 rfl (PB.ob (ob_X0_6 hX hp) hX (Nat.le_of_ble_eq_true rfl)) (Nat.le_of_ble_eq_true rfl) rfl (vm_X2_read (ob_X0_6 hX hp) x3p hc7) rfl (rOk.of rfl) ?_
  refine v_istore_n F dX0_law_22 rfl (Nat.le_of_ble_eq_true rfl) (L' := [mA 1, mI x1, mI x8, mU]) rfl ?_
  refine v_iload_n F dX0_law_23 rfl rfl ?_
  refine v_iconst F dX0_law_24 ⟨by decide, by decide⟩ ?_
  refine v_icmp_eq F dX0_law_25 rfl (fun hq9 => ?_) (fun hq9 => ?_)
  · rw [if_pos hq9] at h
    refine v_aload_n F dX0_law_34 rfl rfl ?_
    obtain ⟨x10, ex10, h⟩ := lv_some h
    obtain ⟨hn12, h⟩ := ck_some h
    refine gf_X0_42 F dX0_law_35 hp ex10 fun hr11 => ?_
    have x10p := hr11.resolve_left hn12
    refine v_astore_n F dX0_law_38 rfl (Nat.le_of_ble_eq_true rfl) (L' := [mA 1, mI x1, mI x8, mA x10]) rfl ?_
    refine v_aload_n F dX0_law_39 rfl rfl ?_
    refine v_aload_n F dX0_law_40 rfl rfl ?_
    obtain ⟨x13, ex13, h⟩ := lv_some h
    obtain ⟨hn15, h⟩ := ck_some h
    refine gf_X0_46 F dX0_law_41 hp ex13 fun hr14 => ?_
    have x13p := hr14.resolve_left hn15
    obtain ⟨d16, ed16, h⟩ := sd_some h
    refine pf_X0_42 F dX0_law_44 hp (Or.inr x13p) ?_
    refine v_nD ed16 ?_
    refine v_aload_n F dX0_law_47 rfl rfl ?_
    refine v_aload_n F dX0_law_48 rfl rfl ?_
    obtain ⟨d17, ed17, h⟩ := sd_some h
    refine pf_X0_46 F dX0_law_49 hp (Or.inr x10p) ?_
    refine v_nD ed17 ?_
    refine v_aload_n F dX0_law_52 rfl rfl ?_
    refine v_iconst F dX0_law_53 ⟨by decide, by decide⟩ ?_
    obtain ⟨d18, ed18, h⟩ := sd_some h
    refine pf_X0_237 F dX0_law_54 hp (Or.inr rfl) ?_
    refine v_nD ed18 ?_
    refine v_aload_n F dX0_law_57 rfl rfl ?_
    obtain ⟨d19, hc20, h⟩ := bd_some h
    refine v_callV0 (c := 0) F dX0_law_58 cv_X0_256 rfl (PB.ob hp hX (Nat.le_of_ble_eq_true rfl)) (Nat.le_of_ble_eq_true rfl) rfl (vm_X0_begin hp hc20) rfl (rOk.of rfl) ?_
    refine v_aload_n F dX0_law_61 rfl rfl ?_
    refine v_bipush F dX0_law_62 rfl ⟨by decide, by decide⟩ ?_
    refine v_aload_n F dX0_law_64 rfl rfl ?_
    obtain ⟨x21, ex21, h⟩ := lv_some h
    obtain ⟨hn23, h⟩ := ck_some h
    refine gf_X0_42 F dX0_law_65 hp ex21 fun hr22 => ?_
    have x21p := hr22.resolve_left hn23
    refine gf_X0_259 F dX0_law_68 x21p ?_
    refine v_iconst F dX0_law_71 ⟨by decide, by decide⟩ ?_
    refine v_iconst F dX0_law_72 ⟨by decide, by decide⟩ ?_
    refine v_iconst F dX0_law_73 ⟨by decide, by decide⟩ ?_
    obtain ⟨d24, hc25, h⟩ := bd_some h
    refine v_callV0 (c := 0) F dX0_law_74 cv_X0_173 rfl (PB.ob hp hX (Nat.le_of_ble_eq_true rfl)) (Nat.le_of_ble_eq_true rfl) rfl (vm_X0_write hp hc25) rfl (rOk.of rfl) ?_
    refine v_aload_n F dX0_law_77 rfl rfl ?_
    obtain ⟨x26, ex26, h⟩ := lv_some h
    obtain ⟨hn28, h⟩ := ck_some h
    refine gf_X0_42 F dX0_law_78 hp ex26 fun hr27 => ?_
    have x26p := hr27.resolve_left hn28
    refine gf_X0_259 F dX0_law_81 x26p ?_
    cases h
    cases (show _ = (d', r) from K)
    exact v_iret F dX0_law_84
  · rw [if_neg hq9] at h
    refine v_sipush F dX0_law_28 rfl ⟨by decide, by decide⟩ ?_
    refine v_iload_n F dX0_law_31 rfl rfl ?_
    refine v_isub F dX0_law_32 ?_
    cases h
    cases (show _ = (d', r) from K)
    exact v_iret F dX0_law_33
theorem vm_X11_textAt {w : Wd} {l : Launch} {d m : Dt} {a1 : Int} {r : Int} (hp : PB m 1545 11) (h : fX11_textAt d a1 = some r) : VM w l WF yX11_textAt cX11_textAt 2 (some .int) 0 0 0 0 d m [mA 1545, mI a1] (some (mI r)) d m := by
  obtain ⟨x, h, K⟩ : ∃ x, fX11_textAt d a1 = some x ∧ x = r := ⟨_, h, rfl⟩
  refine VM.of (L := [mA 1545, mI a1]) (by decide +kernel) rfl (Nat.le_of_ble_eq_true rfl) fun G F _ => v_fact fun _ hX _ _ => ?_
  unfold fX11_textAt at h
  refine v_iload_n F dX11_textAt_0 rfl rfl ?_
  refine v_aload_n F dX11_textAt_1 rfl rfl ?_
  refine gf_X11_158 F dX11_textAt_2 hp ?_
  refine v_icmp_ge F dX11_textAt_5 rfl (fun hq1 => ?_) (fun hq1 => ?_)
  · rw [if_pos hq1] at h
    refine v_iconst F dX11_textAt_17 ⟨by decide, by decide⟩ ?_
    cases h
    cases (show _ = r from K)
    exact v_iret F dX11_textAt_18
  · rw [if_neg hq1] at h
    refine v_aload_n F dX11_textAt_8 rfl rfl ?_
    refine gf_X11_9 F dX11_textAt_9 hp (v := 1546) rfl ?_
    refine v_iload_n F dX11_textAt_12 rfl rfl ?_
    obtain ⟨hi2, h⟩ := ck_some h
    refine v_bald F dX11_textAt_13 (ar_X11_0 hX hp) hi2 ?_
    refine v_goto F dX11_textAt_14 rfl ?_
    cases h
    cases (show _ = r from K)
    exact v_iret F dX11_textAt_18
def fX11_cutSigns_6P (w : Wd) (l : Launch) (G : Cx) (Q : State → Prop) (m : Dt) (s : Dt × Int × Int × Int) : Prop := V w l WF G Q s.1 m 0 0 6 [mA 1545, mI (s.2.1), mI (s.2.2.1), mI (s.2.2.2), mU, mU, mU] []
def fX11_cutSigns_10P (w : Wd) (l : Launch) (G : Cx) (Q : State → Prop) (m : Dt) (d : Dt) (v1 : Int) (s : Int) : Prop := V w l WF G Q d m 0 0 10 [mA 1545, mI v1, mI (s), mU, mU, mU, mU] []
theorem fX11_cutSigns_306_ok {w : Wd} {l : Launch} {G : Cx} {d m dd : Dt} {v1 v5 : Int} {d' : Dt} {x : ((Dt × Int × Int × Int) ⊕ Dt)} (F : Fx w G cX11_cutSigns RX11 7 none { frames := 1, cells := 0, slots := 0, locals := 25 }) (hX : WF dd m) (hp : PB m 1545 11) (h : fX11_cutSigns_306 d v1 v5 = some x) (K : (Sum.elim (fX11_cutSigns_6P w l G (QM w G WF none d' m 0 0) m) (fun q => q = d')) x) : V w l WF G (QM w G WF none d' m 0 0) d m 0 0 306 [mA 1545, mI v1, mU, mU, mU, mI v5, mU] [] := by
  unfold fX11_cutSigns_306 at h
  refine v_aload_n F dX11_cutSigns_306 rfl rfl ?_
  refine gf_X11_185 F dX11_cutSigns_307 hp (v := 1567) rfl ?_
  refine v_iload_n F dX11_cutSigns_310 rfl rfl ?_
  refine v_iload F dX11_cutSigns_311 rfl ?_
  obtain ⟨hi15, h⟩ := ck_some h
  obtain ⟨d16, ed16, h⟩ := sd_some h
  refine v_iast F dX11_cutSigns_313 (ar_X11_26 hX hp) hi15 ?_
  refine v_nD ed16 ?_
  refine v_aload_n F dX11_cutSigns_314 rfl rfl ?_
  refine gf_X11_167 F dX11_cutSigns_315 hp (v := 1565) rfl ?_
  refine v_iload_n F dX11_cutSigns_318 rfl rfl ?_
  refine v_iald F dX11_cutSigns_319 (ar_X11_24 hX hp) hi15 ?_
  refine v_if_eq F dX11_cutSigns_320 rfl (fun hq17 => ?_) (fun hq17 => ?_)
  · rw [if_pos hq17] at h
    refine v_iconst F dX11_cutSigns_337 ⟨by decide, by decide⟩ ?_
    refine v_istore_n F dX11_cutSigns_338 rfl (Nat.le_of_ble_eq_true rfl) (L' := [mA 1545, mI v1, mU, mI 0, mU, mI v5, mU]) rfl ?_
    obtain ⟨x18, ex18, h⟩ := lv_some h
    refine v_iincN F dX11_cutSigns_339 (Nat.le_of_ble_eq_true rfl) rfl ex18 (L' := [mA 1545, mI x18, mU, mI 0, mU, mI v5, mU]) rfl ?_
    refine v_iload F dX11_cutSigns_342 rfl ?_
    refine v_istore_n F dX11_cutSigns_344 rfl (Nat.le_of_ble_eq_true rfl) (L' := [mA 1545, mI x18, mI v5, mI 0, mU, mI v5, mU]) rfl ?_
    refine v_goto F dX11_cutSigns_345 rfl ?_
    cases h
    refine v_fgt (L' := [mA 1545, mI x18, mI v5, mI 0, mU, mU, mU]) ⟨Or.inl rfl, Or.inl rfl, Or.inl rfl, Or.inl rfl, Or.inl rfl, Or.inr rfl, Or.inl rfl, trivial⟩ ?_
    exact K
  · rw [if_neg hq17] at h
    refine v_aload_n F dX11_cutSigns_323 rfl rfl ?_
    refine gf_X11_167 F dX11_cutSigns_324 hp (v := 1565) rfl ?_
    refine v_iload_n F dX11_cutSigns_327 rfl rfl ?_
    refine v_iald F dX11_cutSigns_328 (ar_X11_24 hX hp) hi15 ?_
    refine v_iconst F dX11_cutSigns_329 ⟨by decide, by decide⟩ ?_
    refine v_icmp_eq F dX11_cutSigns_330 rfl (fun hq19 => ?_) (fun hq19 => ?_)
    · rw [if_pos hq19] at h
      refine v_iconst F dX11_cutSigns_337 ⟨by decide, by decide⟩ ?_
      refine v_istore_n F dX11_cutSigns_338 rfl (Nat.le_of_ble_eq_true rfl) (L' := [mA 1545, mI v1, mU, mI 0, mU, mI v5, mU]) rfl ?_
      obtain ⟨x20, ex20, h⟩ := lv_some h
      refine v_iincN F dX11_cutSigns_339 (Nat.le_of_ble_eq_true rfl) rfl ex20 (L' := [mA 1545, mI x20, mU, mI 0, mU, mI v5, mU]) rfl ?_
      refine v_iload F dX11_cutSigns_342 rfl ?_
      refine v_istore_n F dX11_cutSigns_344 rfl (Nat.le_of_ble_eq_true rfl) (L' := [mA 1545, mI x20, mI v5, mI 0, mU, mI v5, mU]) rfl ?_
      refine v_goto F dX11_cutSigns_345 rfl ?_
      cases h
      refine v_fgt (L' := [mA 1545, mI x20, mI v5, mI 0, mU, mU, mU]) ⟨Or.inl rfl, Or.inl rfl, Or.inl rfl, Or.inl rfl, Or.inl rfl, Or.inr rfl, Or.inl rfl, trivial⟩ ?_
      exact K
    · rw [if_neg hq19] at h
      refine v_iconst F dX11_cutSigns_333 ⟨by decide, by decide⟩ ?_
      refine v_goto F dX11_cutSigns_334 rfl ?_
      refine v_istore_n F dX11_cutSigns_338 rfl (Nat.le_of_ble_eq_true rfl) (L' := [mA 1545, mI v1, mU, mI 1, mU, mI v5, mU]) rfl ?_
      obtain ⟨x21, ex21, h⟩ := lv_some h
      refine v_iincN F dX11_cutSigns_339 (Nat.le_of_ble_eq_true rfl) rfl ex21 (L' := [mA 1545, mI x21, mU, mI 1, mU, mI v5, mU]) rfl ?_
      refine v_iload F dX11_cutSigns_342 rfl ?_
      refine v_istore_n F dX11_cutSigns_344 rfl (Nat.le_of_ble_eq_true rfl) (L' := [mA 1545, mI x21, mI v5, mI 1, mU, mI v5, mU]) rfl ?_
      refine v_goto F dX11_cutSigns_345 rfl ?_
      cases h
      refine v_fgt (L' := [mA 1545, mI x21, mI v5, mI 1, mU, mU, mU]) ⟨Or.inl rfl, Or.inl rfl, Or.inl rfl, Or.inl rfl, Or.inl rfl, Or.inr rfl, Or.inl rfl, trivial⟩ ?_
      exact K
theorem fX11_cutSigns_305_ok {w : Wd} {l : Launch} {G : Cx} {d m dd : Dt} {v1 v5 s1 s2 : Int} {d' : Dt} {x : ((Dt × Int × Int × Int) ⊕ Dt)} (F : Fx w G cX11_cutSigns RX11 7 none { frames := 1, cells := 0, slots := 0, locals := 25 }) (hX : WF dd m) (hp : PB m 1545 11) (h : fX11_cutSigns_305 d v1 v5 s1 s2 = some x) (K : (Sum.elim (fX11_cutSigns_6P w l G (QM w G WF none d' m 0 0) m) (fun q => q = d')) x) : V w l WF G (QM w G WF none d' m 0 0) d m 0 0 305 [mA 1545, mI v1, mU, mU, mU, mI v5, mU] [mI s2, mI s1, mA 1565] := by
  unfold fX11_cutSigns_305 at h
  obtain ⟨hi13, h⟩ := ck_some h
  obtain ⟨d14, ed14, h⟩ := sd_some h
  refine v_iast F dX11_cutSigns_305 (ar_X11_24 hX hp) hi13 ?_
  refine v_nD ed14 ?_
  exact fX11_cutSigns_306_ok F hX hp h K
theorem fX11_cutSigns_287_ok {w : Wd} {l : Launch} {G : Cx} {d m dd : Dt} {v1 v4 v5 s0 : Int} {d' : Dt} {x : ((Dt × Int × Int × Int) ⊕ Dt)} (F : Fx w G cX11_cutSigns RX11 7 none { frames := 1, cells := 0, slots := 0, locals := 25 }) (hX : WF dd m) (hp : PB m 1545 11) (h : fX11_cutSigns_287 d v1 v4 v5 s0 = some x) (K : (Sum.elim (fX11_cutSigns_6P w l G (QM w G WF none d' m 0 0) m) (fun q => q = d')) x) : V w l WF G (QM w G WF none d' m 0 0) d m 0 0 287 [mA 1545, mI v1, mU, mU, mI v4, mI v5, mU] [mI s0] := by
  unfold fX11_cutSigns_287 at h
  refine v_istore F dX11_cutSigns_287 (Nat.le_of_ble_eq_true rfl) (L' := [mA 1545, mI v1, mU, mU, mI v4, mI v5, mI s0]) rfl ?_
  refine v_aload_n F dX11_cutSigns_289 rfl rfl ?_
  refine gf_X11_167 F dX11_cutSigns_290 hp (v := 1565) rfl ?_
  refine v_iload_n F dX11_cutSigns_293 rfl rfl ?_
  refine v_iload F dX11_cutSigns_294 rfl ?_
  refine v_if_eq F dX11_cutSigns_296 rfl (fun hq12 => ?_) (fun hq12 => ?_)
  · rw [if_pos hq12] at h
    refine v_iconst F dX11_cutSigns_304 ⟨by decide, by decide⟩ ?_
    refine v_fgt (L' := [mA 1545, mI v1, mU, mU, mU, mI v5, mU]) ⟨Or.inl rfl, Or.inl rfl, Or.inl rfl, Or.inl rfl, Or.inr rfl, Or.inl rfl, Or.inr rfl, trivial⟩ ?_
    exact fX11_cutSigns_305_ok F hX hp h K
  · rw [if_neg hq12] at h
    refine v_iload F dX11_cutSigns_299 rfl ?_
    refine v_goto F dX11_cutSigns_301 rfl ?_
    refine v_fgt (L' := [mA 1545, mI v1, mU, mU, mU, mI v5, mU]) ⟨Or.inl rfl, Or.inl rfl, Or.inl rfl, Or.inl rfl, Or.inr rfl, Or.inl rfl, Or.inr rfl, trivial⟩ ?_
    exact fX11_cutSigns_305_ok F hX hp h K
def fX11_cutSigns_155P (w : Wd) (l : Launch) (G : Cx) (Q : State → Prop) (m : Dt) (d : Dt) (v1 v2 : Int) (s : Int × Int) : Prop := V w l WF G Q d m 0 0 155 [mA 1545, mI v1, mI v2, mU, mU, mI (s.1), mI (s.2)] []
theorem fX11_cutSigns_229_ok {w : Wd} {l : Launch} {G : Cx} {d m dd : Dt} {v1 v5 s1 s2 : Int} {d' : Dt} {x : ((Dt × Int × Int × Int) ⊕ Dt)} (F : Fx w G cX11_cutSigns RX11 7 none { frames := 1, cells := 0, slots := 0, locals := 25 }) (hX : WF dd m) (hp : PB m 1545 11) (h : fX11_cutSigns_229 d v1 v5 s1 s2 = some x) (K : (Sum.elim (fX11_cutSigns_6P w l G (QM w G WF none d' m 0 0) m) (fun q => q = d')) x) : V w l WF G (QM w G WF none d' m 0 0) d m 0 0 229 [mA 1545, mI v1, mU, mU, mU, mI v5, mU] [mI s2, mI s1, mA 1568] := by
  unfold fX11_cutSigns_229 at h
  obtain ⟨hi35, h⟩ := ck_some h
  obtain ⟨d36, ed36, h⟩ := sd_some h
  refine v_iast F dX11_cutSigns_229 (ar_X11_27 hX hp) hi35 ?_
  refine v_nD ed36 ?_
  refine v_goto F dX11_cutSigns_230 rfl ?_
  exact fX11_cutSigns_306_ok F hX hp h K
theorem fX11_cutSigns_155f_ok {w : Wd} {l : Launch} {G : Cx} {d m dd : Dt} {v1 v2 : Int} {d' : Dt} {s : Int × Int} {x : ((Int × Int) ⊕ ((Dt × Int × Int × Int) ⊕ Dt))} (F : Fx w G cX11_cutSigns RX11 7 none { frames := 1, cells := 0, slots := 0, locals := 25 }) (hX : WF dd m) (hp : PB m 1545 11) (h : fX11_cutSigns_155f d v1 v2 s = some x) (K : (Sum.elim (fX11_cutSigns_155P w l G (QM w G WF none d' m 0 0) m d v1 v2) (Sum.elim (fX11_cutSigns_6P w l G (QM w G WF none d' m 0 0) m) (fun q => q = d'))) x) : V w l WF G (QM w G WF none d' m 0 0) d m 0 0 155 [mA 1545, mI v1, mI v2, mU, mU, mI (s.1), mI (s.2)] [] := by
  obtain ⟨v5, v6⟩ := s
  unfold fX11_cutSigns_155f at h
  dsimp only at h
  refine v_aload_n F dX11_cutSigns_155 rfl rfl ?_
  refine v_iload F dX11_cutSigns_156 rfl ?_
  obtain ⟨x29, hc30, h⟩ := b1_some h
  refine v_callVv (c := 11) F dX11_cutSigns_158 cv_X11_164 rfl (PB.ob hp hX (Nat.le_of_ble_eq_true rfl)) (Nat.le_of_ble_eq_true rfl) rfl (vm_X11_textAt hp hc30) rfl (rOk.of rfl) ?_
  refine v_i2l F dX11_cutSigns_161 ?_
  refine v_ldc2 (n := 48) F dX11_cutSigns_162 q2545 rfl ⟨by decide, by decide⟩ ?_
  refine v_ldc2 (n := 57) F dX11_cutSigns_165 q2546 rfl ⟨by decide, by decide⟩ ?_
  refine v_callSv F dX11_cutSigns_168 cs_X11_13 rfl (vm_X11_in) rfl (rOk.of rfl) ?_
  refine v_if_eq F dX11_cutSigns_171 rfl (fun hq31 => ?_) (fun hq31 => ?_)
  · rw [if_pos hq31] at h
    obtain ⟨z, hu, ez⟩ := up_some h
    clear h
    subst ez
    have h := hu
    clear hu
    refine v_aload_n F dX11_cutSigns_202 rfl rfl ?_
    refine gf_X11_167 F dX11_cutSigns_203 hp (v := 1565) rfl ?_
    refine v_iload_n F dX11_cutSigns_206 rfl rfl ?_
    refine v_iconst F dX11_cutSigns_207 ⟨by decide, by decide⟩ ?_
    obtain ⟨hi32, h⟩ := ck_some h
    obtain ⟨d33, ed33, h⟩ := sd_some h
    refine v_iast F dX11_cutSigns_208 (ar_X11_24 hX hp) hi32 ?_
    refine v_nD ed33 ?_
    refine v_aload_n F dX11_cutSigns_209 rfl rfl ?_
    refine gf_X11_182 F dX11_cutSigns_210 hp (v := 1568) rfl ?_
    refine v_iload_n F dX11_cutSigns_213 rfl rfl ?_
    refine v_iload F dX11_cutSigns_214 rfl ?_
    refine v_iload_n F dX11_cutSigns_216 rfl rfl ?_
    refine v_isub F dX11_cutSigns_217 ?_
    refine v_iconst F dX11_cutSigns_218 ⟨by decide, by decide⟩ ?_
    refine v_icmp_le F dX11_cutSigns_219 rfl (fun hq34 => ?_) (fun hq34 => ?_)
    · rw [if_pos hq34] at h
      refine v_iload F dX11_cutSigns_227 rfl ?_
      refine v_fgt (L' := [mA 1545, mI v1, mU, mU, mU, mI v5, mU]) ⟨Or.inl rfl, Or.inl rfl, Or.inr rfl, Or.inl rfl, Or.inl rfl, Or.inl rfl, Or.inr rfl, trivial⟩ ?_
      exact fX11_cutSigns_229_ok F hX hp h K
    · rw [if_neg hq34] at h
      refine v_ldc (n := 99999) F dX11_cutSigns_222 q2547 rfl ⟨by decide, by decide⟩ ?_
      refine v_goto F dX11_cutSigns_224 rfl ?_
      refine v_fgt (L' := [mA 1545, mI v1, mU, mU, mU, mI v5, mU]) ⟨Or.inl rfl, Or.inl rfl, Or.inr rfl, Or.inl rfl, Or.inl rfl, Or.inl rfl, Or.inr rfl, trivial⟩ ?_
      exact fX11_cutSigns_229_ok F hX hp h K
  · rw [if_neg hq31] at h
    refine v_ldc (n := 99999) F dX11_cutSigns_174 q2547 rfl ⟨by decide, by decide⟩ ?_
    refine v_bipush F dX11_cutSigns_176 rfl ⟨by decide, by decide⟩ ?_
    refine v_iload F dX11_cutSigns_178 rfl ?_
    refine v_imul F dX11_cutSigns_180 ?_
    refine v_aload_n F dX11_cutSigns_181 rfl rfl ?_
    refine v_iload F dX11_cutSigns_182 rfl ?_
    obtain ⟨x37, hc38, h⟩ := b1_some h
    refine v_callVv (c := 11) F dX11_cutSigns_184 cv_X11_164 rfl (PB.ob hp hX (Nat.le_of_ble_eq_true rfl)) (Nat.le_of_ble_eq_true rfl) rfl (vm_X11_textAt hp hc38) rfl (rOk.of rfl) ?_
    refine v_iadd F dX11_cutSigns_187 ?_
    refine v_bipush F dX11_cutSigns_188 rfl ⟨by decide, by decide⟩ ?_
    refine v_isub F dX11_cutSigns_190 ?_
    refine v_callSv F dX11_cutSigns_191 cs_X11_179 rfl (vm_J9_min) rfl (rOk.of rfl) ?_
    obtain ⟨x39, ex39, h⟩ := lv_some h
    refine v_nI ex39 ?_
    refine v_istore F dX11_cutSigns_194 (Nat.le_of_ble_eq_true rfl) (L' := [mA 1545, mI v1, mI v2, mU, mU, mI v5, mI x39]) rfl ?_
    obtain ⟨x40, ex40, h⟩ := lv_some h
    refine v_iincN F dX11_cutSigns_196 (Nat.le_of_ble_eq_true rfl) rfl ex40 (L' := [mA 1545, mI v1, mI v2, mU, mU, mI x40, mI x39]) rfl ?_
    refine v_goto F dX11_cutSigns_199 rfl ?_
    cases h
    exact K
theorem fX11_cutSigns_155_ok {w : Wd} {l : Launch} {G : Cx} {d m dd : Dt} {v1 v2 v5 v6 : Int} {d' : Dt} {x : ((Dt × Int × Int × Int) ⊕ Dt)} (F : Fx w G cX11_cutSigns RX11 7 none { frames := 1, cells := 0, slots := 0, locals := 25 }) (hX : WF dd m) (hp : PB m 1545 11) (h : fX11_cutSigns_155 d v1 v2 v5 v6 = some x) (K : (Sum.elim (fX11_cutSigns_6P w l G (QM w G WF none d' m 0 0) m) (fun q => q = d')) x) : V w l WF G (QM w G WF none d' m 0 0) d m 0 0 155 [mA 1545, mI v1, mI v2, mU, mU, mI v5, mI v6] [] := by
  unfold fX11_cutSigns_155 at h
  exact loop_ok (P := fX11_cutSigns_155P w l G (QM w G WF none d' m 0 0) m d v1 v2) (fun s x hx h1 h2 => fX11_cutSigns_155f_ok F hX hp hx (by
    cases x with
    | inl s' => exact h1 s' rfl
    | inr z => cases h2 z rfl; exact K)) h
def fX11_cutSigns_98P (w : Wd) (l : Launch) (G : Cx) (Q : State → Prop) (m : Dt) (d : Dt) (v1 : Int) (s : Int) : Prop := V w l WF G Q d m 0 0 98 [mA 1545, mI v1, mU, mU, mU, mI (s), mU] []
theorem fX11_cutSigns_98f_ok {w : Wd} {l : Launch} {G : Cx} {d m dd : Dt} {v1 : Int} {d' : Dt} {s : Int} {x : ((Int) ⊕ ((Dt × Int × Int × Int) ⊕ Dt))} (F : Fx w G cX11_cutSigns RX11 7 none { frames := 1, cells := 0, slots := 0, locals := 25 }) (hX : WF dd m) (hp : PB m 1545 11) (h : fX11_cutSigns_98f d v1 s = some x) (K : (Sum.elim (fX11_cutSigns_98P w l G (QM w G WF none d' m 0 0) m d v1) (Sum.elim (fX11_cutSigns_6P w l G (QM w G WF none d' m 0 0) m) (fun q => q = d'))) x) : V w l WF G (QM w G WF none d' m 0 0) d m 0 0 98 [mA 1545, mI v1, mU, mU, mU, mI (s), mU] [] := by
  obtain ⟨v5, rfl⟩ : ∃ z, z = s := ⟨s, rfl⟩
  unfold fX11_cutSigns_98f at h
  dsimp only at h
  refine v_aload_n F dX11_cutSigns_98 rfl rfl ?_
  refine v_iload F dX11_cutSigns_99 rfl ?_
  obtain ⟨x41, hc42, h⟩ := b1_some h
  refine v_callVv (c := 11) F dX11_cutSigns_101 cv_X11_164 rfl (PB.ob hp hX (Nat.le_of_ble_eq_true rfl)) (Nat.le_of_ble_eq_true rfl) rfl (vm_X11_textAt hp hc42) rfl (rOk.of rfl) ?_
  refine v_i2l F dX11_cutSigns_104 ?_
  refine v_ldc2 (n := 65) F dX11_cutSigns_105 q2543 rfl ⟨by decide, by decide⟩ ?_
  refine v_ldc2 (n := 90) F dX11_cutSigns_108 q2544 rfl ⟨by decide, by decide⟩ ?_
  refine v_callSv F dX11_cutSigns_111 cs_X11_13 rfl (vm_X11_in) rfl (rOk.of rfl) ?_
  refine v_if_eq F dX11_cutSigns_114 rfl (fun hq43 => ?_) (fun hq43 => ?_)
  · rw [if_pos hq43] at h
    obtain ⟨z, hu, ez⟩ := up_some h
    clear h
    subst ez
    have h := hu
    clear hu
    refine v_aload_n F dX11_cutSigns_123 rfl rfl ?_
    refine gf_X11_167 F dX11_cutSigns_124 hp (v := 1565) rfl ?_
    refine v_iload_n F dX11_cutSigns_127 rfl rfl ?_
    refine v_iconst F dX11_cutSigns_128 ⟨by decide, by decide⟩ ?_
    obtain ⟨hi44, h⟩ := ck_some h
    obtain ⟨d45, ed45, h⟩ := sd_some h
    refine v_iast F dX11_cutSigns_129 (ar_X11_24 hX hp) hi44 ?_
    refine v_nD ed45 ?_
    refine v_goto F dX11_cutSigns_130 rfl ?_
    exact fX11_cutSigns_306_ok F hX hp h K
  · rw [if_neg hq43] at h
    obtain ⟨x46, ex46, h⟩ := lv_some h
    refine v_iincN F dX11_cutSigns_117 (Nat.le_of_ble_eq_true rfl) rfl ex46 (L' := [mA 1545, mI v1, mU, mU, mU, mI x46, mU]) rfl ?_
    refine v_goto F dX11_cutSigns_120 rfl ?_
    cases h
    exact K
theorem fX11_cutSigns_98_ok {w : Wd} {l : Launch} {G : Cx} {d m dd : Dt} {v1 v5 : Int} {d' : Dt} {x : ((Dt × Int × Int × Int) ⊕ Dt)} (F : Fx w G cX11_cutSigns RX11 7 none { frames := 1, cells := 0, slots := 0, locals := 25 }) (hX : WF dd m) (hp : PB m 1545 11) (h : fX11_cutSigns_98 d v1 v5 = some x) (K : (Sum.elim (fX11_cutSigns_6P w l G (QM w G WF none d' m 0 0) m) (fun q => q = d')) x) : V w l WF G (QM w G WF none d' m 0 0) d m 0 0 98 [mA 1545, mI v1, mU, mU, mU, mI v5, mU] [] := by
  unfold fX11_cutSigns_98 at h
  exact loop_ok (P := fX11_cutSigns_98P w l G (QM w G WF none d' m 0 0) m d v1) (fun s x hx h1 h2 => fX11_cutSigns_98f_ok F hX hp hx (by
    cases x with
    | inl s' => exact h1 s' rfl
    | inr z => cases h2 z rfl; exact K)) h
theorem fX11_cutSigns_46_ok {w : Wd} {l : Launch} {G : Cx} {d m dd : Dt} {v1 v2 : Int} {d' : Dt} {x : ((Dt × Int × Int × Int) ⊕ Dt)} (F : Fx w G cX11_cutSigns RX11 7 none { frames := 1, cells := 0, slots := 0, locals := 25 }) (hX : WF dd m) (hp : PB m 1545 11) (h : fX11_cutSigns_46 d v1 v2 = some x) (K : (Sum.elim (fX11_cutSigns_6P w l G (QM w G WF none d' m 0 0) m) (fun q => q = d')) x) : V w l WF G (QM w G WF none d' m 0 0) d m 0 0 46 [mA 1545, mI v1, mI v2, mU, mU, mU, mU] [] := by
  unfold fX11_cutSigns_46 at h
  refine v_aload_n F dX11_cutSigns_46 rfl rfl ?_
  refine gf_X11_161 F dX11_cutSigns_47 hp (v := 1566) rfl ?_
  refine v_iload_n F dX11_cutSigns_50 rfl rfl ?_
  refine v_iload_n F dX11_cutSigns_51 rfl rfl ?_
  obtain ⟨hi3, h⟩ := ck_some h
  obtain ⟨d4, ed4, h⟩ := sd_some h
  refine v_iast F dX11_cutSigns_52 (ar_X11_25 hX hp) hi3 ?_
  refine v_nD ed4 ?_
  refine v_aload_n F dX11_cutSigns_53 rfl rfl ?_
  refine v_iload_n F dX11_cutSigns_54 rfl rfl ?_
  obtain ⟨x5, hc6, h⟩ := b1_some h
  refine v_callVv (c := 11) F dX11_cutSigns_55 cv_X11_164 rfl (PB.ob hp hX (Nat.le_of_ble_eq_true rfl)) (Nat.le_of_ble_eq_true rfl) rfl (vm_X11_textAt hp hc6) rfl (rOk.of rfl) ?_
  refine v_istore F dX11_cutSigns_58 (Nat.le_of_ble_eq_true rfl) (L' := [mA 1545, mI v1, mI v2, mU, mI x5, mU, mU]) rfl ?_
  refine v_iload_n F dX11_cutSigns_60 rfl rfl ?_
  refine v_iconst F dX11_cutSigns_61 ⟨by decide, by decide⟩ ?_
  refine v_iadd F dX11_cutSigns_62 ?_
  obtain ⟨x7, ex7, h⟩ := lv_some h
  refine v_nI ex7 ?_
  refine v_istore F dX11_cutSigns_63 (Nat.le_of_ble_eq_true rfl) (L' := [mA 1545, mI v1, mI v2, mU, mI x5, mI x7, mU]) rfl ?_
  refine v_iload_n F dX11_cutSigns_65 rfl rfl ?_
  refine v_aload_n F dX11_cutSigns_66 rfl rfl ?_
  refine gf_X11_158 F dX11_cutSigns_67 hp ?_
  refine v_icmp_ne F dX11_cutSigns_70 rfl (fun hq8 => ?_) (fun hq8 => ?_)
  · rw [if_neg hq8] at h
    refine v_iload F dX11_cutSigns_83 rfl ?_
    refine v_i2l F dX11_cutSigns_85 ?_
    refine v_ldc2 (n := 65) F dX11_cutSigns_86 q2543 rfl ⟨by decide, by decide⟩ ?_
    refine v_ldc2 (n := 90) F dX11_cutSigns_89 q2544 rfl ⟨by decide, by decide⟩ ?_
    refine v_callSv F dX11_cutSigns_92 cs_X11_13 rfl (vm_X11_in) rfl (rOk.of rfl) ?_
    refine v_if_eq F dX11_cutSigns_95 rfl (fun hq9 => ?_) (fun hq9 => ?_)
    · rw [if_pos hq9] at h
      refine v_iload F dX11_cutSigns_133 rfl ?_
      refine v_i2l F dX11_cutSigns_135 ?_
      refine v_ldc2 (n := 48) F dX11_cutSigns_136 q2545 rfl ⟨by decide, by decide⟩ ?_
      refine v_ldc2 (n := 57) F dX11_cutSigns_139 q2546 rfl ⟨by decide, by decide⟩ ?_
      refine v_callSv F dX11_cutSigns_142 cs_X11_13 rfl (vm_X11_in) rfl (rOk.of rfl) ?_
      refine v_if_eq F dX11_cutSigns_145 rfl (fun hq10 => ?_) (fun hq10 => ?_)
      · rw [if_pos hq10] at h
        refine v_iload F dX11_cutSigns_233 rfl ?_
        refine v_bipush F dX11_cutSigns_235 rfl ⟨by decide, by decide⟩ ?_
        refine v_icmp_eq F dX11_cutSigns_237 rfl (fun hq11 => ?_) (fun hq11 => ?_)
        · rw [if_pos hq11] at h
          refine v_iconst F dX11_cutSigns_282 ⟨by decide, by decide⟩ ?_
          refine v_goto F dX11_cutSigns_283 rfl ?_
          refine v_fgt (L' := [mA 1545, mI v1, mU, mU, mI x5, mI x7, mU]) ⟨Or.inl rfl, Or.inl rfl, Or.inr rfl, Or.inl rfl, Or.inl rfl, Or.inl rfl, Or.inl rfl, trivial⟩ ?_
          exact fX11_cutSigns_287_ok F hX hp h K
        · rw [if_neg hq11] at h
          refine v_iload F dX11_cutSigns_240 rfl ?_
          refine v_bipush F dX11_cutSigns_242 rfl ⟨by decide, by decide⟩ ?_
          refine v_icmp_eq F dX11_cutSigns_244 rfl (fun hq22 => ?_) (fun hq22 => ?_)
          · rw [if_pos hq22] at h
            refine v_iconst F dX11_cutSigns_282 ⟨by decide, by decide⟩ ?_
            refine v_goto F dX11_cutSigns_283 rfl ?_
            refine v_fgt (L' := [mA 1545, mI v1, mU, mU, mI x5, mI x7, mU]) ⟨Or.inl rfl, Or.inl rfl, Or.inr rfl, Or.inl rfl, Or.inl rfl, Or.inl rfl, Or.inl rfl, trivial⟩ ?_
            exact fX11_cutSigns_287_ok F hX hp h K
          · rw [if_neg hq22] at h
            refine v_iload F dX11_cutSigns_247 rfl ?_
            refine v_bipush F dX11_cutSigns_249 rfl ⟨by decide, by decide⟩ ?_
            refine v_icmp_eq F dX11_cutSigns_251 rfl (fun hq23 => ?_) (fun hq23 => ?_)
            · rw [if_pos hq23] at h
              refine v_iconst F dX11_cutSigns_282 ⟨by decide, by decide⟩ ?_
              refine v_goto F dX11_cutSigns_283 rfl ?_
              refine v_fgt (L' := [mA 1545, mI v1, mU, mU, mI x5, mI x7, mU]) ⟨Or.inl rfl, Or.inl rfl, Or.inr rfl, Or.inl rfl, Or.inl rfl, Or.inl rfl, Or.inl rfl, trivial⟩ ?_
              exact fX11_cutSigns_287_ok F hX hp h K
            · rw [if_neg hq23] at h
              refine v_iload F dX11_cutSigns_254 rfl ?_
              refine v_bipush F dX11_cutSigns_256 rfl ⟨by decide, by decide⟩ ?_
              refine v_icmp_eq F dX11_cutSigns_258 rfl (fun hq24 => ?_) (fun hq24 => ?_)
              · rw [if_pos hq24] at h
                refine v_iconst F dX11_cutSigns_282 ⟨by decide, by decide⟩ ?_
                refine v_goto F dX11_cutSigns_283 rfl ?_
                refine v_fgt (L' := [mA 1545, mI v1, mU, mU, mI x5, mI x7, mU]) ⟨Or.inl rfl, Or.inl rfl, Or.inr rfl, Or.inl rfl, Or.inl rfl, Or.inl rfl, Or.inl rfl, trivial⟩ ?_
                exact fX11_cutSigns_287_ok F hX hp h K
              · rw [if_neg hq24] at h
                refine v_iload F dX11_cutSigns_261 rfl ?_
                refine v_bipush F dX11_cutSigns_263 rfl ⟨by decide, by decide⟩ ?_
                refine v_icmp_eq F dX11_cutSigns_265 rfl (fun hq25 => ?_) (fun hq25 => ?_)
                · rw [if_pos hq25] at h
                  refine v_iconst F dX11_cutSigns_282 ⟨by decide, by decide⟩ ?_
                  refine v_goto F dX11_cutSigns_283 rfl ?_
                  refine v_fgt (L' := [mA 1545, mI v1, mU, mU, mI x5, mI x7, mU]) ⟨Or.inl rfl, Or.inl rfl, Or.inr rfl, Or.inl rfl, Or.inl rfl, Or.inl rfl, Or.inl rfl, trivial⟩ ?_
                  exact fX11_cutSigns_287_ok F hX hp h K
                · rw [if_neg hq25] at h
                  refine v_iload F dX11_cutSigns_268 rfl ?_
                  refine v_bipush F dX11_cutSigns_270 rfl ⟨by decide, by decide⟩ ?_
                  refine v_icmp_eq F dX11_cutSigns_272 rfl (fun hq26 => ?_) (fun hq26 => ?_)
                  · rw [if_pos hq26] at h
                    refine v_iconst F dX11_cutSigns_282 ⟨by decide, by decide⟩ ?_
                    refine v_goto F dX11_cutSigns_283 rfl ?_
                    refine v_fgt (L' := [mA 1545, mI v1, mU, mU, mI x5, mI x7, mU]) ⟨Or.inl rfl, Or.inl rfl, Or.inr rfl, Or.inl rfl, Or.inl rfl, Or.inl rfl, Or.inl rfl, trivial⟩ ?_
                    exact fX11_cutSigns_287_ok F hX hp h K
                  · rw [if_neg hq26] at h
                    refine v_iload F dX11_cutSigns_275 rfl ?_
                    refine v_bipush F dX11_cutSigns_277 rfl ⟨by decide, by decide⟩ ?_
                    refine v_icmp_ne F dX11_cutSigns_279 rfl (fun hq27 => ?_) (fun hq27 => ?_)
                    · rw [if_neg hq27] at h
                      refine v_iconst F dX11_cutSigns_286 ⟨by decide, by decide⟩ ?_
                      refine v_fgt (L' := [mA 1545, mI v1, mU, mU, mI x5, mI x7, mU]) ⟨Or.inl rfl, Or.inl rfl, Or.inr rfl, Or.inl rfl, Or.inl rfl, Or.inl rfl, Or.inl rfl, trivial⟩ ?_
                      exact fX11_cutSigns_287_ok F hX hp h K
                    · rw [if_pos hq27] at h
                      refine v_iconst F dX11_cutSigns_282 ⟨by decide, by decide⟩ ?_
                      refine v_goto F dX11_cutSigns_283 rfl ?_
                      refine v_fgt (L' := [mA 1545, mI v1, mU, mU, mI x5, mI x7, mU]) ⟨Or.inl rfl, Or.inl rfl, Or.inr rfl, Or.inl rfl, Or.inl rfl, Or.inl rfl, Or.inl rfl, trivial⟩ ?_
                      exact fX11_cutSigns_287_ok F hX hp h K
      · rw [if_neg hq10] at h
        refine v_iload F dX11_cutSigns_148 rfl ?_
        refine v_bipush F dX11_cutSigns_150 rfl ⟨by decide, by decide⟩ ?_
        refine v_isub F dX11_cutSigns_152 ?_
        obtain ⟨x28, ex28, h⟩ := lv_some h
        refine v_nI ex28 ?_
        refine v_istore F dX11_cutSigns_153 (Nat.le_of_ble_eq_true rfl) (L' := [mA 1545, mI v1, mI v2, mU, mI x5, mI x7, mI x28]) rfl ?_
        refine v_fgt (L' := [mA 1545, mI v1, mI v2, mU, mU, mI x7, mI x28]) ⟨Or.inl rfl, Or.inl rfl, Or.inl rfl, Or.inl rfl, Or.inr rfl, Or.inl rfl, Or.inl rfl, trivial⟩ ?_
        exact fX11_cutSigns_155_ok F hX hp h K
    · rw [if_neg hq9] at h
      refine v_fgt (L' := [mA 1545, mI v1, mU, mU, mU, mI x7, mU]) ⟨Or.inl rfl, Or.inl rfl, Or.inr rfl, Or.inl rfl, Or.inr rfl, Or.inl rfl, Or.inl rfl, trivial⟩ ?_
      exact fX11_cutSigns_98_ok F hX hp h K
  · rw [if_pos hq8] at h
    refine v_aload_n F dX11_cutSigns_73 rfl rfl ?_
    refine gf_X11_167 F dX11_cutSigns_74 hp (v := 1565) rfl ?_
    refine v_iload_n F dX11_cutSigns_77 rfl rfl ?_
    refine v_iconst F dX11_cutSigns_78 ⟨by decide, by decide⟩ ?_
    obtain ⟨d47, ed47, h⟩ := sd_some h
    refine v_iast F dX11_cutSigns_79 (ar_X11_24 hX hp) hi3 ?_
    refine v_nD ed47 ?_
    refine v_goto F dX11_cutSigns_80 rfl ?_
    refine v_fgt (L' := [mA 1545, mI v1, mU, mU, mU, mI x7, mU]) ⟨Or.inl rfl, Or.inl rfl, Or.inr rfl, Or.inl rfl, Or.inr rfl, Or.inl rfl, Or.inl rfl, trivial⟩ ?_
    exact fX11_cutSigns_306_ok F hX hp h K
theorem fX11_cutSigns_10f_ok {w : Wd} {l : Launch} {G : Cx} {d m dd : Dt} {v1 : Int} {d' : Dt} {s : Int} {x : ((Int) ⊕ ((Dt × Int × Int × Int) ⊕ Dt))} (F : Fx w G cX11_cutSigns RX11 7 none { frames := 1, cells := 0, slots := 0, locals := 25 }) (hX : WF dd m) (hp : PB m 1545 11) (h : fX11_cutSigns_10f d v1 s = some x) (K : (Sum.elim (fX11_cutSigns_10P w l G (QM w G WF none d' m 0 0) m d v1) (Sum.elim (fX11_cutSigns_6P w l G (QM w G WF none d' m 0 0) m) (fun q => q = d'))) x) : V w l WF G (QM w G WF none d' m 0 0) d m 0 0 10 [mA 1545, mI v1, mI (s), mU, mU, mU, mU] [] := by
  obtain ⟨v2, rfl⟩ : ∃ z, z = s := ⟨s, rfl⟩
  unfold fX11_cutSigns_10f at h
  dsimp only at h
  refine v_iload_n F dX11_cutSigns_10 rfl rfl ?_
  refine v_aload_n F dX11_cutSigns_11 rfl rfl ?_
  refine gf_X11_158 F dX11_cutSigns_12 hp ?_
  refine v_icmp_ge F dX11_cutSigns_15 rfl (fun hq2 => ?_) (fun hq2 => ?_)
  · rw [if_pos hq2] at h
    obtain ⟨z, hu, ez⟩ := up_some h
    clear h
    subst ez
    have h := hu
    clear hu
    exact fX11_cutSigns_46_ok F hX hp h K
  · rw [if_neg hq2] at h
    refine v_aload_n F dX11_cutSigns_18 rfl rfl ?_
    refine gf_X11_9 F dX11_cutSigns_19 hp (v := 1546) rfl ?_
    refine v_iload_n F dX11_cutSigns_22 rfl rfl ?_
    obtain ⟨hi48, h⟩ := ck_some h
    refine v_bald F dX11_cutSigns_23 (ar_X11_0 hX hp) hi48 ?_
    refine v_bipush F dX11_cutSigns_24 rfl ⟨by decide, by decide⟩ ?_
    refine v_icmp_eq F dX11_cutSigns_26 rfl (fun hq49 => ?_) (fun hq49 => ?_)
    · rw [if_pos hq49] at h
      obtain ⟨x50, ex50, h⟩ := lv_some h
      refine v_iincN F dX11_cutSigns_40 (Nat.le_of_ble_eq_true rfl) rfl ex50 (L' := [mA 1545, mI v1, mI x50, mU, mU, mU, mU]) rfl ?_
      refine v_goto F dX11_cutSigns_43 rfl ?_
      cases h
      exact K
    · rw [if_neg hq49] at h
      refine v_aload_n F dX11_cutSigns_29 rfl rfl ?_
      refine gf_X11_9 F dX11_cutSigns_30 hp (v := 1546) rfl ?_
      refine v_iload_n F dX11_cutSigns_33 rfl rfl ?_
      refine v_bald F dX11_cutSigns_34 (ar_X11_0 hX hp) hi48 ?_
      refine v_bipush F dX11_cutSigns_35 rfl ⟨by decide, by decide⟩ ?_
      refine v_icmp_ne F dX11_cutSigns_37 rfl (fun hq51 => ?_) (fun hq51 => ?_)
      · rw [if_neg hq51] at h
        obtain ⟨z, hu, ez⟩ := up_some h
        clear h
        subst ez
        have h := hu
        clear hu
        exact fX11_cutSigns_46_ok F hX hp h K
      · rw [if_pos hq51] at h
        obtain ⟨x52, ex52, h⟩ := lv_some h
        refine v_iincN F dX11_cutSigns_40 (Nat.le_of_ble_eq_true rfl) rfl ex52 (L' := [mA 1545, mI v1, mI x52, mU, mU, mU, mU]) rfl ?_
        refine v_goto F dX11_cutSigns_43 rfl ?_
        cases h
        exact K
theorem fX11_cutSigns_10_ok {w : Wd} {l : Launch} {G : Cx} {d m dd : Dt} {v1 v2 : Int} {d' : Dt} {x : ((Dt × Int × Int × Int) ⊕ Dt)} (F : Fx w G cX11_cutSigns RX11 7 none { frames := 1, cells := 0, slots := 0, locals := 25 }) (hX : WF dd m) (hp : PB m 1545 11) (h : fX11_cutSigns_10 d v1 v2 = some x) (K : (Sum.elim (fX11_cutSigns_6P w l G (QM w G WF none d' m 0 0) m) (fun q => q = d')) x) : V w l WF G (QM w G WF none d' m 0 0) d m 0 0 10 [mA 1545, mI v1, mI v2, mU, mU, mU, mU] [] := by
  unfold fX11_cutSigns_10 at h
  exact loop_ok (P := fX11_cutSigns_10P w l G (QM w G WF none d' m 0 0) m d v1) (fun s x hx h1 h2 => fX11_cutSigns_10f_ok F hX hp hx (by
    cases x with
    | inl s' => exact h1 s' rfl
    | inr z => cases h2 z rfl; exact K)) h
theorem fX11_cutSigns_6f_ok {w : Wd} {l : Launch} {G : Cx} {m dd : Dt} {d' : Dt} {s : Dt × Int × Int × Int} {x : ((Dt × Int × Int × Int) ⊕ Dt)} (F : Fx w G cX11_cutSigns RX11 7 none { frames := 1, cells := 0, slots := 0, locals := 25 }) (hX : WF dd m) (hp : PB m 1545 11) (h : fX11_cutSigns_6f s = some x) (K : (Sum.elim (fX11_cutSigns_6P w l G (QM w G WF none d' m 0 0) m) (fun q => q = d')) x) : V w l WF G (QM w G WF none d' m 0 0) s.1 m 0 0 6 [mA 1545, mI (s.2.1), mI (s.2.2.1), mI (s.2.2.2), mU, mU, mU] [] := by
  obtain ⟨d, v1, v2, v3⟩ := s
  unfold fX11_cutSigns_6f at h
  dsimp only at h
  refine v_iload_n F dX11_cutSigns_6 rfl rfl ?_
  refine v_if_eq F dX11_cutSigns_7 rfl (fun hq1 => ?_) (fun hq1 => ?_)
  · rw [if_pos hq1] at h
    obtain ⟨z, hu, ez⟩ := up_some h
    clear h
    subst ez
    have h := hu
    clear hu
    cases h
    cases (show _ = d' from K)
    exact v_vret F dX11_cutSigns_348
  · rw [if_neg hq1] at h
    refine v_fgt (L' := [mA 1545, mI v1, mI v2, mU, mU, mU, mU]) ⟨Or.inl rfl, Or.inl rfl, Or.inl rfl, Or.inr rfl, Or.inl rfl, Or.inl rfl, Or.inl rfl, trivial⟩ ?_
    exact fX11_cutSigns_10_ok F hX hp h K
theorem fX11_cutSigns_6_ok {w : Wd} {l : Launch} {G : Cx} {d m dd : Dt} {v1 v2 v3 : Int} {d' : Dt} {x : Dt} (F : Fx w G cX11_cutSigns RX11 7 none { frames := 1, cells := 0, slots := 0, locals := 25 }) (hX : WF dd m) (hp : PB m 1545 11) (h : fX11_cutSigns_6 d v1 v2 v3 = some x) (K : (fun q => q = d') x) : V w l WF G (QM w G WF none d' m 0 0) d m 0 0 6 [mA 1545, mI v1, mI v2, mI v3, mU, mU, mU] [] := by
  unfold fX11_cutSigns_6 at h
  exact loop_ok (P := fX11_cutSigns_6P w l G (QM w G WF none d' m 0 0) m) (fun s x hx h1 h2 => fX11_cutSigns_6f_ok F hX hp hx (by
    cases x with
    | inl s' => exact h1 s' rfl
    | inr z => cases h2 z rfl; exact K)) h
theorem vm_X11_cutSigns {w : Wd} {l : Launch} {d m : Dt} {d' : Dt} (hp : PB m 1545 11) (h : fX11_cutSigns d = some d') : VM w l WF yX11_cutSigns cX11_cutSigns 7 none 1 25 0 0 d m [mA 1545] none d' m := by
  obtain ⟨x, h, K⟩ : ∃ x, fX11_cutSigns d = some x ∧ x = d' := ⟨_, h, rfl⟩
  refine VM.of (L := [mA 1545, mU, mU, mU, mU, mU, mU]) (by decide +kernel) rfl (Nat.le_of_ble_eq_true rfl) fun G F _ => v_fact fun _ hX _ _ => ?_
  unfold fX11_cutSigns at h
  refine v_iconst F dX11_cutSigns_0 ⟨by decide, by decide⟩ ?_
  refine v_istore_n F dX11_cutSigns_1 rfl (Nat.le_of_ble_eq_true rfl) (L' := [mA 1545, mI 0, mU, mU, mU, mU, mU]) rfl ?_
  refine v_iconst F dX11_cutSigns_2 ⟨by decide, by decide⟩ ?_
  refine v_istore_n F dX11_cutSigns_3 rfl (Nat.le_of_ble_eq_true rfl) (L' := [mA 1545, mI 0, mI 0, mU, mU, mU, mU]) rfl ?_
  refine v_iconst F dX11_cutSigns_4 ⟨by decide, by decide⟩ ?_
  refine v_istore_n F dX11_cutSigns_5 rfl (Nat.le_of_ble_eq_true rfl) (L' := [mA 1545, mI 0, mI 0, mI 1, mU, mU, mU]) rfl ?_
  exact fX11_cutSigns_6_ok F hX hp h K
theorem vm_X11_isSign {w : Wd} {l : Launch} {d m : Dt} {a1 : Int} {r : Int} (hp : PB m 1545 11) (h : fX11_isSign d a1 = some r) : VM w l WF yX11_isSign cX11_isSign 2 (some .boolean) 0 0 0 0 d m [mA 1545, mI a1] (some (mI r)) d m := by
  obtain ⟨x, h, K⟩ : ∃ x, fX11_isSign d a1 = some x ∧ x = r := ⟨_, h, rfl⟩
  refine VM.of (L := [mA 1545, mI a1]) (by decide +kernel) rfl (Nat.le_of_ble_eq_true rfl) fun G F _ => v_fact fun _ hX _ _ => ?_
  unfold fX11_isSign at h
  refine v_aload_n F dX11_isSign_0 rfl rfl ?_
  refine gf_X11_167 F dX11_isSign_1 hp (v := 1565) rfl ?_
  refine v_aload_n F dX11_isSign_4 rfl rfl ?_
  refine gf_X11_188 F dX11_isSign_5 hp ?_
  obtain ⟨x1, ex1, h⟩ := lv_some h
  refine v_nI ex1 ?_
  obtain ⟨hi2, h⟩ := ck_some h
  refine v_iald F dX11_isSign_8 (ar_X11_24 hX hp) hi2 ?_
  refine v_iload_n F dX11_isSign_9 rfl rfl ?_
  refine v_icmp_ne F dX11_isSign_10 rfl (fun hq3 => ?_) (fun hq3 => ?_)
  · rw [if_neg hq3] at h
    refine v_iconst F dX11_isSign_17 ⟨by decide, by decide⟩ ?_
    cases h
    cases (show _ = r from K)
    exact v_zret F (Or.inl rfl) dX11_isSign_18
  · rw [if_pos hq3] at h
    refine v_iconst F dX11_isSign_13 ⟨by decide, by decide⟩ ?_
    refine v_goto F dX11_isSign_14 rfl ?_
    cases h
    cases (show _ = r from K)
    exact v_zret F (Or.inr rfl) dX11_isSign_18
theorem fX11_clauseName_80_ok {w : Wd} {l : Launch} {X : Dt → Dt → Prop} {G : Cx} {d m : Dt} {a1 s0 : Int} {r : Int} {x : Int} (F : Fx w G cX11_clauseName RX11 1 (some (.object "java/lang/String")) { frames := 0, cells := 0, slots := 0, locals := 0 }) (h : fX11_clauseName_80 a1 s0 = x) (K : (fun q => q = r) x) : V w l X G (QM w G X (some (mA r)) d m 0 0) d m 0 0 80 [mU] [mA s0] := by
  unfold fX11_clauseName_80 at h
  subst h
  cases (show _ = r from K)
  exact v_aret F rfl (Or.inl ⟨_, rfl⟩) dX11_clauseName_80
theorem vm_X11_clauseName {w : Wd} {l : Launch} {X : Dt → Dt → Prop} {d m : Dt} {a1 : Int} : VM w l X yX11_clauseName cX11_clauseName 1 (some (.object "java/lang/String")) 0 0 0 0 d m [mI a1] (some (mA (fX11_clauseName a1))) d m := by
  obtain ⟨r, hr⟩ : ∃ r, fX11_clauseName a1 = r := ⟨_, rfl⟩
  rw [hr]
  obtain ⟨x, h, K⟩ : ∃ x, fX11_clauseName a1 = x ∧ x = r := ⟨_, hr, rfl⟩
  refine VM.of (L := [mI a1]) (by decide +kernel) rfl (Nat.le_of_ble_eq_true rfl) fun G F _ => ?_
  unfold fX11_clauseName at h
  refine v_iload_n F dX11_clauseName_0 rfl rfl ?_
  refine v_if_ne F dX11_clauseName_1 rfl (fun hq1 => ?_) (fun hq1 => ?_)
  · rw [if_neg hq1] at h
    refine v_iload_n F dX11_clauseName_10 rfl rfl ?_
    refine v_iconst F dX11_clauseName_11 ⟨by decide, by decide⟩ ?_
    refine v_icmp_ne F dX11_clauseName_12 rfl (fun hq2 => ?_) (fun hq2 => ?_)
    · rw [if_neg hq2] at h
      refine v_iload_n F dX11_clauseName_21 rfl rfl ?_
      refine v_iconst F dX11_clauseName_22 ⟨by decide, by decide⟩ ?_
      refine v_icmp_ne F dX11_clauseName_23 rfl (fun hq3 => ?_) (fun hq3 => ?_)
      · rw [if_neg hq3] at h
        refine v_iload_n F dX11_clauseName_32 rfl rfl ?_
        refine v_iconst F dX11_clauseName_33 ⟨by decide, by decide⟩ ?_
        refine v_icmp_ne F dX11_clauseName_34 rfl (fun hq4 => ?_) (fun hq4 => ?_)
        · rw [if_neg hq4] at h
          refine v_iload_n F dX11_clauseName_43 rfl rfl ?_
          refine v_iconst F dX11_clauseName_44 ⟨by decide, by decide⟩ ?_
          refine v_icmp_ne F dX11_clauseName_45 rfl (fun hq5 => ?_) (fun hq5 => ?_)
          · rw [if_neg hq5] at h
            refine v_iload_n F dX11_clauseName_54 rfl rfl ?_
            refine v_iconst F dX11_clauseName_55 ⟨by decide, by decide⟩ ?_
            refine v_icmp_ne F dX11_clauseName_56 rfl (fun hq6 => ?_) (fun hq6 => ?_)
            · rw [if_neg hq6] at h
              refine v_iload_n F dX11_clauseName_65 rfl rfl ?_
              refine v_bipush F dX11_clauseName_66 rfl ⟨by decide, by decide⟩ ?_
              refine v_icmp_ne F dX11_clauseName_68 rfl (fun hq7 => ?_) (fun hq7 => ?_)
              · rw [if_neg hq7] at h
                refine v_ldsw (tx := "CONTEST") (a := (-24)) F dX11_clauseName_77 (List.mem_of_getElem? (i := 62) rfl) (by decide) ?_
                refine v_fgt (L' := [mU]) ⟨Or.inr rfl, trivial⟩ ?_
                exact fX11_clauseName_80_ok F h K
              · rw [if_pos hq7] at h
                refine v_ldsw (tx := "MAIL") (a := (-22)) F dX11_clauseName_71 (List.mem_of_getElem? (i := 61) rfl) (by decide) ?_
                refine v_goto F dX11_clauseName_74 rfl ?_
                refine v_fgt (L' := [mU]) ⟨Or.inr rfl, trivial⟩ ?_
                exact fX11_clauseName_80_ok F h K
            · rw [if_pos hq6] at h
              refine v_ldsw (tx := "SPOIL") (a := (-20)) F dX11_clauseName_59 (List.mem_of_getElem? (i := 60) rfl) (by decide) ?_
              refine v_goto F dX11_clauseName_62 rfl ?_
              refine v_fgt (L' := [mU]) ⟨Or.inr rfl, trivial⟩ ?_
              exact fX11_clauseName_80_ok F h K
          · rw [if_pos hq5] at h
            refine v_ldsw (tx := "SIGNATURES") (a := (-18)) F dX11_clauseName_48 (List.mem_of_getElem? (i := 59) rfl) (by decide) ?_
            refine v_goto F dX11_clauseName_51 rfl ?_
            refine v_fgt (L' := [mU]) ⟨Or.inr rfl, trivial⟩ ?_
            exact fX11_clauseName_80_ok F h K
        · rw [if_pos hq4] at h
          refine v_ldsw (tx := "STAND") (a := (-16)) F dX11_clauseName_37 (List.mem_of_getElem? (i := 58) rfl) (by decide) ?_
          refine v_goto F dX11_clauseName_40 rfl ?_
          refine v_fgt (L' := [mU]) ⟨Or.inr rfl, trivial⟩ ?_
          exact fX11_clauseName_80_ok F h K
      · rw [if_pos hq3] at h
        refine v_ldsw (tx := "VOTE") (a := (-14)) F dX11_clauseName_26 (List.mem_of_getElem? (i := 57) rfl) (by decide) ?_
        refine v_goto F dX11_clauseName_29 rfl ?_
        refine v_fgt (L' := [mU]) ⟨Or.inr rfl, trivial⟩ ?_
        exact fX11_clauseName_80_ok F h K
    · rw [if_pos hq2] at h
      refine v_ldsw (tx := "EVE") (a := (-12)) F dX11_clauseName_15 (List.mem_of_getElem? (i := 56) rfl) (by decide) ?_
      refine v_goto F dX11_clauseName_18 rfl ?_
      refine v_fgt (L' := [mU]) ⟨Or.inr rfl, trivial⟩ ?_
      exact fX11_clauseName_80_ok F h K
  · rw [if_pos hq1] at h
    refine v_ldsw (tx := "DAYS") (a := (-10)) F dX11_clauseName_4 (List.mem_of_getElem? (i := 55) rfl) (by decide) ?_
    refine v_goto F dX11_clauseName_7 rfl ?_
    refine v_fgt (L' := [mU]) ⟨Or.inr rfl, trivial⟩ ?_
    exact fX11_clauseName_80_ok F h K
theorem ps_X11_clauseName {a1 : Int} : isS (fX11_clauseName a1) := by
  show isSb _ = true
  unfold fX11_clauseName
  by_cases h0 : a1 = 0
  · rw [if_pos h0]; rfl
  rw [if_neg h0]
  by_cases h1 : a1 = 1
  · rw [if_pos h1]; rfl
  rw [if_neg h1]
  by_cases h2 : a1 = 2
  · rw [if_pos h2]; rfl
  rw [if_neg h2]
  by_cases h3 : a1 = 3
  · rw [if_pos h3]; rfl
  rw [if_neg h3]
  by_cases h4 : a1 = 4
  · rw [if_pos h4]; rfl
  rw [if_neg h4]
  by_cases h5 : a1 = 5
  · rw [if_pos h5]; rfl
  rw [if_neg h5]
  by_cases h6 : a1 = 6
  · rw [if_pos h6]; rfl
  rw [if_neg h6]
  rfl
def fX11_isWord_43P (w : Wd) (l : Launch) (G : Cx) (Q : State → Prop) (m : Dt) (d : Dt) (a1 : Int) (s : Int) : Prop := V w l WF G Q d m 0 0 43 [mA 1545, mA a1, mI (s)] []
theorem fX11_isWord_43f_ok {w : Wd} {l : Launch} {G : Cx} {d m dd : Dt} {a1 : Int} {r : Int} {s : Int} {x : ((Int) ⊕ Int)} (F : Fx w G cX11_isWord RX11 3 (some .boolean) { frames := 4, cells := 0, slots := 0, locals := 85 }) (hX : WF dd m) (hp : PB m 1545 11) (hp1 : isS a1) (h : fX11_isWord_43f d a1 s = some x) (K : (Sum.elim (fX11_isWord_43P w l G (QM w G WF (some (mI r)) d m 0 0) m d a1) (fun q => q = r)) x) : V w l WF G (QM w G WF (some (mI r)) d m 0 0) d m 0 0 43 [mA 1545, mA a1, mI (s)] [] := by
  obtain ⟨v2, rfl⟩ : ∃ z, z = s := ⟨s, rfl⟩
  unfold fX11_isWord_43f at h
  dsimp only at h
  refine v_iload_n F dX11_isWord_43 rfl rfl ?_
  refine v_aload_n F dX11_isWord_44 rfl rfl ?_
  refine v_callVX F dX11_isWord_45 cv_X11_191 rfl hp1 (isS_neg hp1).1 rfl (vm_J5_length hp1) rfl (rOk.of rfl) ?_
  refine v_icmp_ge F dX11_isWord_48 rfl (fun hq9 => ?_) (fun hq9 => ?_)
  · rw [if_pos hq9] at h
    obtain ⟨z, hu, ez⟩ := up_some h
    clear h
    subst ez
    have h := hu
    clear hu
    refine v_iconst F dX11_isWord_83 ⟨by decide, by decide⟩ ?_
    cases h
    cases (show _ = r from K)
    exact v_zret F (Or.inr rfl) dX11_isWord_84
  · rw [if_neg hq9] at h
    refine v_aload_n F dX11_isWord_51 rfl rfl ?_
    refine gf_X11_9 F dX11_isWord_52 hp (v := 1546) rfl ?_
    refine v_aload_n F dX11_isWord_55 rfl rfl ?_
    refine gf_X11_161 F dX11_isWord_56 hp (v := 1566) rfl ?_
    refine v_aload_n F dX11_isWord_59 rfl rfl ?_
    refine gf_X11_188 F dX11_isWord_60 hp ?_
    obtain ⟨x10, ex10, h⟩ := lv_some h
    refine v_nI ex10 ?_
    obtain ⟨hi11, h⟩ := ck_some h
    refine v_iald F dX11_isWord_63 (ar_X11_25 hX hp) hi11 ?_
    refine v_iload_n F dX11_isWord_64 rfl rfl ?_
    refine v_iadd F dX11_isWord_65 ?_
    obtain ⟨x12, ex12, h⟩ := lv_some h
    refine v_nI ex12 ?_
    obtain ⟨hi13, h⟩ := ck_some h
    refine v_bald F dX11_isWord_66 (ar_X11_0 hX hp) hi13 ?_
    refine v_aload_n F dX11_isWord_67 rfl rfl ?_
    refine v_iload_n F dX11_isWord_68 rfl rfl ?_
    obtain ⟨hi14, h⟩ := ck_some h
    refine v_callVX F dX11_isWord_69 cv_X11_197 rfl hp1 (isS_neg hp1).1 rfl (vm_J5_charAt hp1 hi14) rfl (rOk.of rfl) ?_
    refine v_icmp_eq F dX11_isWord_72 rfl (fun hq15 => ?_) (fun hq15 => ?_)
    · rw [if_pos hq15] at h
      obtain ⟨x16, ex16, h⟩ := lv_some h
      refine v_iincN F dX11_isWord_77 (Nat.le_of_ble_eq_true rfl) rfl ex16 (L' := [mA 1545, mA a1, mI x16]) rfl ?_
      refine v_goto F dX11_isWord_80 rfl ?_
      cases h
      exact K
    · rw [if_neg hq15] at h
      obtain ⟨z, hu, ez⟩ := up_some h
      clear h
      subst ez
      have h := hu
      clear hu
      refine v_iconst F dX11_isWord_75 ⟨by decide, by decide⟩ ?_
      cases h
      cases (show _ = r from K)
      exact v_zret F (Or.inl rfl) dX11_isWord_76
theorem fX11_isWord_43_ok {w : Wd} {l : Launch} {G : Cx} {d m dd : Dt} {a1 v2 : Int} {r : Int} {x : Int} (F : Fx w G cX11_isWord RX11 3 (some .boolean) { frames := 4, cells := 0, slots := 0, locals := 85 }) (hX : WF dd m) (hp : PB m 1545 11) (hp1 : isS a1) (h : fX11_isWord_43 d a1 v2 = some x) (K : (fun q => q = r) x) : V w l WF G (QM w G WF (some (mI r)) d m 0 0) d m 0 0 43 [mA 1545, mA a1, mI v2] [] := by
  unfold fX11_isWord_43 at h
  exact loop_ok (P := fX11_isWord_43P w l G (QM w G WF (some (mI r)) d m 0 0) m d a1) (fun s x hx h1 h2 => fX11_isWord_43f_ok F hX hp hp1 hx (by
    cases x with
    | inl s' => exact h1 s' rfl
    | inr z => cases h2 z rfl; exact K)) h
theorem vm_X11_isWord {w : Wd} {l : Launch} {d m : Dt} {a1 : Int} {r : Int} (hp : PB m 1545 11) (hp1 : isS a1) (h : fX11_isWord d a1 = some r) : VM w l WF yX11_isWord cX11_isWord 3 (some .boolean) 4 85 0 0 d m [mA 1545, mA a1] (some (mI r)) d m := by
  obtain ⟨x, h, K⟩ : ∃ x, fX11_isWord d a1 = some x ∧ x = r := ⟨_, h, rfl⟩
  refine VM.of (L := [mA 1545, mA a1, mU]) (by decide +kernel) rfl (Nat.le_of_ble_eq_true rfl) fun G F _ => v_fact fun _ hX _ _ => ?_
  unfold fX11_isWord at h
  refine v_aload_n F dX11_isWord_0 rfl rfl ?_
  refine gf_X11_167 F dX11_isWord_1 hp (v := 1565) rfl ?_
  refine v_aload_n F dX11_isWord_4 rfl rfl ?_
  refine gf_X11_188 F dX11_isWord_5 hp ?_
  obtain ⟨x1, ex1, h⟩ := lv_some h
  refine v_nI ex1 ?_
  obtain ⟨hi2, h⟩ := ck_some h
  refine v_iald F dX11_isWord_8 (ar_X11_24 hX hp) hi2 ?_
  refine v_iconst F dX11_isWord_9 ⟨by decide, by decide⟩ ?_
  refine v_icmp_ne F dX11_isWord_10 rfl (fun hq3 => ?_) (fun hq3 => ?_)
  · rw [if_neg hq3] at h
    refine v_iconst F dX11_isWord_39 ⟨by decide, by decide⟩ ?_
    cases h
    cases (show _ = r from K)
    exact v_zret F (Or.inl rfl) dX11_isWord_40
  · rw [if_pos hq3] at h
    refine v_aload_n F dX11_isWord_13 rfl rfl ?_
    refine gf_X11_185 F dX11_isWord_14 hp (v := 1567) rfl ?_
    refine v_aload_n F dX11_isWord_17 rfl rfl ?_
    refine gf_X11_188 F dX11_isWord_18 hp ?_
    obtain ⟨x4, ex4, h⟩ := lv_some h
    refine v_nI ex4 ?_
    obtain ⟨hi5, h⟩ := ck_some h
    refine v_iald F dX11_isWord_21 (ar_X11_26 hX hp) hi5 ?_
    refine v_aload_n F dX11_isWord_22 rfl rfl ?_
    refine gf_X11_161 F dX11_isWord_23 hp (v := 1566) rfl ?_
    refine v_aload_n F dX11_isWord_26 rfl rfl ?_
    refine gf_X11_188 F dX11_isWord_27 hp ?_
    obtain ⟨x6, ex6, h⟩ := lv_some h
    refine v_nI ex6 ?_
    obtain ⟨hi7, h⟩ := ck_some h
    refine v_iald F dX11_isWord_30 (ar_X11_25 hX hp) hi7 ?_
    refine v_isub F dX11_isWord_31 ?_
    refine v_aload_n F dX11_isWord_32 rfl rfl ?_
    refine v_callVX F dX11_isWord_33 cv_X11_191 rfl hp1 (isS_neg hp1).1 rfl (vm_J5_length hp1) rfl (rOk.of rfl) ?_
    refine v_icmp_eq F dX11_isWord_36 rfl (fun hq8 => ?_) (fun hq8 => ?_)
    · rw [if_pos hq8] at h
      refine v_iconst F dX11_isWord_41 ⟨by decide, by decide⟩ ?_
      refine v_istore_n F dX11_isWord_42 rfl (Nat.le_of_ble_eq_true rfl) (L' := [mA 1545, mA a1, mI 0]) rfl ?_
      exact fX11_isWord_43_ok F hX hp hp1 h K
    · rw [if_neg hq8] at h
      refine v_iconst F dX11_isWord_39 ⟨by decide, by decide⟩ ?_
      cases h
      cases (show _ = r from K)
      exact v_zret F (Or.inl rfl) dX11_isWord_40
theorem fX11_mayWord_20_ok {w : Wd} {l : Launch} {G : Cx} {d m dd : Dt} {a1 v2 s1 s2 : Int} {d' : Dt} {r : Int} {x : (Dt × Int)} (F : Fx w G cX11_mayWord RX11 3 (some .boolean) { frames := 5, cells := 0, slots := 0, locals := 107 }) (hX : WF dd m) (hp : PB m 1545 11) (hp1 : isS a1) (h : fX11_mayWord_20 d a1 v2 s1 s2 = some x) (K : (fun q => q = (d', r)) x) : V w l WF G (QM w G WF (some (mI r)) d' m 0 0) d m 0 0 20 [mU, mU, mI v2] [mI s2, mI s1, mA 1545] := by
  unfold fX11_mayWord_20 at h
  refine v_iadd F dX11_mayWord_20 ?_
  obtain ⟨d4, ed4, h⟩ := sd_some h
  refine pf_X11_188 F dX11_mayWord_21 hp ?_
  refine v_nD ed4 ?_
  refine v_iload_n F dX11_mayWord_24 rfl rfl ?_
  obtain ⟨hb, h⟩ := ck_some h
  cases h
  cases (show _ = (d', r) from K)
  exact v_zret F hb dX11_mayWord_25
theorem vm_X11_mayWord {w : Wd} {l : Launch} {d m : Dt} {a1 : Int} {d' : Dt} {r : Int} (hp : PB m 1545 11) (hp1 : isS a1) (h : fX11_mayWord d a1 = some (d', r)) : VM w l WF yX11_mayWord cX11_mayWord 3 (some .boolean) 5 107 0 0 d m [mA 1545, mA a1] (some (mI r)) d' m := by
  obtain ⟨x, h, K⟩ : ∃ x, fX11_mayWord d a1 = some x ∧ x = (d', r) := ⟨_, h, rfl⟩
  refine VM.of (L := [mA 1545, mA a1, mU]) (by decide +kernel) rfl (Nat.le_of_ble_eq_true rfl) fun G F _ => v_fact fun _ hX _ _ => ?_
  unfold fX11_mayWord at h
  refine v_aload_n F dX11_mayWord_0 rfl rfl ?_
  refine v_aload_n F dX11_mayWord_1 rfl rfl ?_
  obtain ⟨x1, hc2, h⟩ := b1_some h
  refine v_callVv (c := 11) F dX11_mayWord_2 cv_X11_214 rfl (PB.ob hp hX (Nat.le_of_ble_eq_true rfl)) (Nat.le_of_ble_eq_true rfl) rfl (vm_X11_isWord hp hp1 hc2) rfl (rOk.of rfl) ?_
  refine v_istore_n F dX11_mayWord_5 rfl (Nat.le_of_ble_eq_true rfl) (L' := [mA 1545, mA a1, mI x1]) rfl ?_
  refine v_aload_n F dX11_mayWord_6 rfl rfl ?_
  refine v_dup_A F dX11_mayWord_7 ?_
  refine gf_X11_188 F dX11_mayWord_8 hp ?_
  refine v_iload_n F dX11_mayWord_11 rfl rfl ?_
  refine v_if_eq F dX11_mayWord_12 rfl (fun hq3 => ?_) (fun hq3 => ?_)
  · rw [if_pos hq3] at h
    refine v_iconst F dX11_mayWord_19 ⟨by decide, by decide⟩ ?_
    refine v_fgt (L' := [mU, mU, mI x1]) ⟨Or.inr rfl, Or.inr rfl, Or.inl rfl, trivial⟩ ?_
    exact fX11_mayWord_20_ok F hX hp hp1 h K
  · rw [if_neg hq3] at h
    refine v_iconst F dX11_mayWord_15 ⟨by decide, by decide⟩ ?_
    refine v_goto F dX11_mayWord_16 rfl ?_
    refine v_fgt (L' := [mU, mU, mI x1]) ⟨Or.inr rfl, Or.inr rfl, Or.inl rfl, trivial⟩ ?_
    exact fX11_mayWord_20_ok F hX hp hp1 h K
theorem vm_X11_miss {w : Wd} {l : Launch} {d m : Dt} {d' : Dt} {r : Int} (hp : PB m 1545 11) (h : fX11_miss d = some (d', r)) : VM w l WF yX11_miss cX11_miss 1 (some .boolean) 0 0 0 0 d m [mA 1545] (some (mI r)) d' m := by
  obtain ⟨x, h, K⟩ : ∃ x, fX11_miss d = some x ∧ x = (d', r) := ⟨_, h, rfl⟩
  refine VM.of (L := [mA 1545]) (by decide +kernel) rfl (Nat.le_of_ble_eq_true rfl) fun G F _ => v_fact fun _ hX _ _ => ?_
  unfold fX11_miss at h
  refine v_aload_n F dX11_miss_0 rfl rfl ?_
  refine v_aload_n F dX11_miss_1 rfl rfl ?_
  refine gf_X11_161 F dX11_miss_2 hp (v := 1566) rfl ?_
  refine v_aload_n F dX11_miss_5 rfl rfl ?_
  refine gf_X11_188 F dX11_miss_6 hp ?_
  obtain ⟨x1, ex1, h⟩ := lv_some h
  refine v_nI ex1 ?_
  obtain ⟨hi2, h⟩ := ck_some h
  refine v_iald F dX11_miss_9 (ar_X11_25 hX hp) hi2 ?_
  obtain ⟨d3, ed3, h⟩ := sd_some h
  refine pf_X11_201 F dX11_miss_10 hp ?_
  refine v_nD ed3 ?_
  refine v_iconst F dX11_miss_13 ⟨by decide, by decide⟩ ?_
  cases h
  cases (show _ = (d', r) from K)
  exact v_zret F (Or.inl rfl) dX11_miss_14
theorem vm_X11_blame {w : Wd} {l : Launch} {d m : Dt} {a1 : Int} {d' : Dt} (hp : PB m 1545 11) (h : fX11_blame d a1 = some d') : VM w l WF yX11_blame cX11_blame 2 none 1 21 0 0 d m [mA 1545, mI a1] none d' m := by
  obtain ⟨x, h, K⟩ : ∃ x, fX11_blame d a1 = some x ∧ x = d' := ⟨_, h, rfl⟩
  refine VM.of (L := [mA 1545, mI a1]) (by decide +kernel) rfl (Nat.le_of_ble_eq_true rfl) fun G F _ => v_fact fun _ hX _ _ => ?_
  unfold fX11_blame at h
  refine v_aload_n F dX11_blame_0 rfl rfl ?_
  refine v_aload_n F dX11_blame_1 rfl rfl ?_
  refine gf_X11_204 F dX11_blame_2 hp ?_
  refine v_iload_n F dX11_blame_5 rfl rfl ?_
  refine v_callSv F dX11_blame_6 cs_X11_179 rfl (vm_J9_min) rfl (rOk.of rfl) ?_
  obtain ⟨d1, ed1, h⟩ := sd_some h
  refine pf_X11_204 F dX11_blame_9 hp ?_
  refine v_nD ed1 ?_
  cases h
  cases (show _ = d' from K)
  exact v_vret F dX11_blame_12
theorem vm_X11_takeSign {w : Wd} {l : Launch} {d m : Dt} {a1 : Int} {d' : Dt} {r : Int} (hp : PB m 1545 11) (h : fX11_takeSign d a1 = some (d', r)) : VM w l WF yX11_takeSign cX11_takeSign 2 (some .boolean) 1 21 0 0 d m [mA 1545, mI a1] (some (mI r)) d' m := by
  obtain ⟨x, h, K⟩ : ∃ x, fX11_takeSign d a1 = some x ∧ x = (d', r) := ⟨_, h, rfl⟩
  refine VM.of (L := [mA 1545, mI a1]) (by decide +kernel) rfl (Nat.le_of_ble_eq_true rfl) fun G F _ => v_fact fun _ hX _ _ => ?_
  unfold fX11_takeSign at h
  refine v_aload_n F dX11_takeSign_0 rfl rfl ?_
  refine v_iload_n F dX11_takeSign_1 rfl rfl ?_
  obtain ⟨x1, hc2, h⟩ := b1_some h
  refine v_callVv (c := 11) F dX11_takeSign_2 cv_X11_207 rfl (PB.ob hp hX (Nat.le_of_ble_eq_true rfl)) (Nat.le_of_ble_eq_true rfl) rfl (vm_X11_isSign hp hc2) rfl (rOk.of rfl) ?_
  refine v_if_ne F dX11_takeSign_5 rfl (fun hq3 => ?_) (fun hq3 => ?_)
  · rw [if_neg hq3] at h
    refine v_aload_n F dX11_takeSign_13 rfl rfl ?_
    refine v_dup_A F dX11_takeSign_14 ?_
    refine gf_X11_188 F dX11_takeSign_15 hp ?_
    refine v_iconst F dX11_takeSign_18 ⟨by decide, by decide⟩ ?_
    refine v_iadd F dX11_takeSign_19 ?_
    obtain ⟨d4, ed4, h⟩ := sd_some h
    refine pf_X11_188 F dX11_takeSign_20 hp ?_
    refine v_nD ed4 ?_
    refine v_iconst F dX11_takeSign_23 ⟨by decide, by decide⟩ ?_
    cases h
    cases (show _ = (d', r) from K)
    exact v_zret F (Or.inr rfl) dX11_takeSign_24
  · rw [if_pos hq3] at h
    refine v_aload_n F dX11_takeSign_8 rfl rfl ?_
    obtain ⟨d5, x7, hc6, h⟩ := b2_some h
    refine v_callVv (c := 11) F dX11_takeSign_9 cv_X11_210 rfl (PB.ob hp hX (Nat.le_of_ble_eq_true rfl)) (Nat.le_of_ble_eq_true rfl) rfl (vm_X11_miss hp hc6) rfl (rOk.of rfl) ?_
    obtain ⟨hb, h⟩ := ck_some h
    cases h
    cases (show _ = (d', r) from K)
    exact v_zret F hb dX11_takeSign_12
theorem fX11_takeNumber_75_ok {w : Wd} {l : Launch} {G : Cx} {d m dd : Dt} {d' : Dt} {r : Int} {x : (Dt × Int)} (F : Fx w G cX11_takeNumber RX11 1 (some .boolean) { frames := 2, cells := 0, slots := 0, locals := 42 }) (hX : WF dd m) (hp : PB m 1545 11) (h : fX11_takeNumber_75 d = some x) (K : (fun q => q = (d', r)) x) : V w l WF G (QM w G WF (some (mI r)) d' m 0 0) d m 0 0 75 [mA 1545] [] := by
  unfold fX11_takeNumber_75 at h
  refine v_aload_n F dX11_takeNumber_75 rfl rfl ?_
  refine v_dup_A F dX11_takeNumber_76 ?_
  refine gf_X11_188 F dX11_takeNumber_77 hp ?_
  refine v_iconst F dX11_takeNumber_80 ⟨by decide, by decide⟩ ?_
  refine v_iadd F dX11_takeNumber_81 ?_
  obtain ⟨d15, ed15, h⟩ := sd_some h
  refine pf_X11_188 F dX11_takeNumber_82 hp ?_
  refine v_nD ed15 ?_
  refine v_iconst F dX11_takeNumber_85 ⟨by decide, by decide⟩ ?_
  cases h
  cases (show _ = (d', r) from K)
  exact v_zret F (Or.inr rfl) dX11_takeNumber_86
theorem vm_X11_takeNumber {w : Wd} {l : Launch} {d m : Dt} {d' : Dt} {r : Int} (hp : PB m 1545 11) (h : fX11_takeNumber d = some (d', r)) : VM w l WF yX11_takeNumber cX11_takeNumber 1 (some .boolean) 2 42 0 0 d m [mA 1545] (some (mI r)) d' m := by
  obtain ⟨x, h, K⟩ : ∃ x, fX11_takeNumber d = some x ∧ x = (d', r) := ⟨_, h, rfl⟩
  refine VM.of (L := [mA 1545]) (by decide +kernel) rfl (Nat.le_of_ble_eq_true rfl) fun G F _ => v_fact fun _ hX _ _ => ?_
  unfold fX11_takeNumber at h
  refine v_aload_n F dX11_takeNumber_0 rfl rfl ?_
  refine gf_X11_167 F dX11_takeNumber_1 hp (v := 1565) rfl ?_
  refine v_aload_n F dX11_takeNumber_4 rfl rfl ?_
  refine gf_X11_188 F dX11_takeNumber_5 hp ?_
  obtain ⟨x1, ex1, h⟩ := lv_some h
  refine v_nI ex1 ?_
  obtain ⟨hi2, h⟩ := ck_some h
  refine v_iald F dX11_takeNumber_8 (ar_X11_24 hX hp) hi2 ?_
  refine v_iconst F dX11_takeNumber_9 ⟨by decide, by decide⟩ ?_
  refine v_icmp_eq F dX11_takeNumber_10 rfl (fun hq3 => ?_) (fun hq3 => ?_)
  · rw [if_pos hq3] at h
    refine v_aload_n F dX11_takeNumber_18 rfl rfl ?_
    refine v_aload_n F dX11_takeNumber_19 rfl rfl ?_
    refine gf_X11_182 F dX11_takeNumber_20 hp (v := 1568) rfl ?_
    refine v_aload_n F dX11_takeNumber_23 rfl rfl ?_
    refine gf_X11_188 F dX11_takeNumber_24 hp ?_
    obtain ⟨x4, ex4, h⟩ := lv_some h
    refine v_nI ex4 ?_
    obtain ⟨hi5, h⟩ := ck_some h
    refine v_iald F dX11_takeNumber_27 (ar_X11_27 hX hp) hi5 ?_
    obtain ⟨d6, ed6, h⟩ := sd_some h
    refine pf_X11_218 F dX11_takeNumber_28 hp ?_
    refine v_nD ed6 ?_
    refine v_aload_n F dX11_takeNumber_31 rfl rfl ?_
    refine v_aload_n F dX11_takeNumber_32 rfl rfl ?_
    refine gf_X11_161 F dX11_takeNumber_33 hp (v := 1566) rfl ?_
    refine v_aload_n F dX11_takeNumber_36 rfl rfl ?_
    refine gf_X11_188 F dX11_takeNumber_37 hp ?_
    obtain ⟨x7, ex7, h⟩ := lv_some h
    refine v_nI ex7 ?_
    obtain ⟨hi8, h⟩ := ck_some h
    refine v_iald F dX11_takeNumber_40 (ar_X11_25 hX hp) hi8 ?_
    obtain ⟨d9, ed9, h⟩ := sd_some h
    refine pf_X11_221 F dX11_takeNumber_41 hp ?_
    refine v_nD ed9 ?_
    refine v_aload_n F dX11_takeNumber_44 rfl rfl ?_
    refine gf_X11_185 F dX11_takeNumber_45 hp (v := 1567) rfl ?_
    refine v_aload_n F dX11_takeNumber_48 rfl rfl ?_
    refine gf_X11_188 F dX11_takeNumber_49 hp ?_
    obtain ⟨x10, ex10, h⟩ := lv_some h
    refine v_nI ex10 ?_
    obtain ⟨hi11, h⟩ := ck_some h
    refine v_iald F dX11_takeNumber_52 (ar_X11_26 hX hp) hi11 ?_
    refine v_aload_n F dX11_takeNumber_53 rfl rfl ?_
    refine gf_X11_161 F dX11_takeNumber_54 hp (v := 1566) rfl ?_
    refine v_aload_n F dX11_takeNumber_57 rfl rfl ?_
    refine gf_X11_188 F dX11_takeNumber_58 hp ?_
    obtain ⟨x12, ex12, h⟩ := lv_some h
    refine v_nI ex12 ?_
    obtain ⟨hi13, h⟩ := ck_some h
    refine v_iald F dX11_takeNumber_61 (ar_X11_25 hX hp) hi13 ?_
    refine v_isub F dX11_takeNumber_62 ?_
    refine v_iconst F dX11_takeNumber_63 ⟨by decide, by decide⟩ ?_
    refine v_icmp_le F dX11_takeNumber_64 rfl (fun hq14 => ?_) (fun hq14 => ?_)
    · rw [if_pos hq14] at h
      exact fX11_takeNumber_75_ok F hX hp h K
    · rw [if_neg hq14] at h
      refine v_aload_n F dX11_takeNumber_67 rfl rfl ?_
      refine v_aload_n F dX11_takeNumber_68 rfl rfl ?_
      refine gf_X11_221 F dX11_takeNumber_69 hp ?_
      obtain ⟨d16, hc17, h⟩ := bd_some h
      refine v_callV0 (c := 11) F dX11_takeNumber_72 cv_X11_224 rfl (PB.ob hp hX (Nat.le_of_ble_eq_true rfl)) (Nat.le_of_ble_eq_true rfl) rfl (vm_X11_blame hp hc17) rfl (rOk.of rfl) ?_
      exact fX11_takeNumber_75_ok F hX hp h K
  · rw [if_neg hq3] at h
    refine v_aload_n F dX11_takeNumber_13 rfl rfl ?_
    obtain ⟨d18, x20, hc19, h⟩ := b2_some h
    refine v_callVv (c := 11) F dX11_takeNumber_14 cv_X11_210 rfl (PB.ob hp hX (Nat.le_of_ble_eq_true rfl)) (Nat.le_of_ble_eq_true rfl) rfl (vm_X11_miss hp hc19) rfl (rOk.of rfl) ?_
    obtain ⟨hb, h⟩ := ck_some h
    cases h
    cases (show _ = (d', r) from K)
    exact v_zret F hb dX11_takeNumber_17
theorem vm_X11_easterOf {w : Wd} {l : Launch} {d m : Dt} {a1 : Int} {r : Int} (h : fX11_easterOf a1 = some r) : VM w l WF yX11_easterOf cX11_easterOf 9 (some .int) 3 65 0 0 d m [mI a1] (some (mI r)) d m := by
  obtain ⟨x, h, K⟩ : ∃ x, fX11_easterOf a1 = some x ∧ x = r := ⟨_, h, rfl⟩
  refine VM.of (L := [mI a1, mU, mU, mU, mU, mU, mU, mU, mU]) (by decide +kernel) rfl (Nat.le_of_ble_eq_true rfl) fun G F _ => v_fact fun _ hX _ _ => ?_
  unfold fX11_easterOf at h
  refine v_iload_n F dX11_easterOf_0 rfl rfl ?_
  refine v_bipush F dX11_easterOf_1 rfl ⟨by decide, by decide⟩ ?_
  refine v_irem F dX11_easterOf_3 (by decide) ?_
  obtain ⟨x1, ex1, h⟩ := lv_some h
  refine v_nI ex1 ?_
  refine v_istore_n F dX11_easterOf_4 rfl (Nat.le_of_ble_eq_true rfl) (L' := [mI a1, mI x1, mU, mU, mU, mU, mU, mU, mU]) rfl ?_
  refine v_iload_n F dX11_easterOf_5 rfl rfl ?_
  refine v_bipush F dX11_easterOf_6 rfl ⟨by decide, by decide⟩ ?_
  refine v_idiv F dX11_easterOf_8 (by decide) ?_
  obtain ⟨x2, ex2, h⟩ := lv_some h
  refine v_nI ex2 ?_
  refine v_istore_n F dX11_easterOf_9 rfl (Nat.le_of_ble_eq_true rfl) (L' := [mI a1, mI x1, mI x2, mU, mU, mU, mU, mU, mU]) rfl ?_
  refine v_iload_n F dX11_easterOf_10 rfl rfl ?_
  refine v_bipush F dX11_easterOf_11 rfl ⟨by decide, by decide⟩ ?_
  refine v_irem F dX11_easterOf_13 (by decide) ?_
  obtain ⟨x3, ex3, h⟩ := lv_some h
  refine v_nI ex3 ?_
  refine v_istore_n F dX11_easterOf_14 rfl (Nat.le_of_ble_eq_true rfl) (L' := [mI a1, mI x1, mI x2, mI x3, mU, mU, mU, mU, mU]) rfl ?_
  refine v_iload_n F dX11_easterOf_15 rfl rfl ?_
  refine v_iload_n F dX11_easterOf_16 rfl rfl ?_
  refine v_bipush F dX11_easterOf_17 rfl ⟨by decide, by decide⟩ ?_
  refine v_iadd F dX11_easterOf_19 ?_
  refine v_bipush F dX11_easterOf_20 rfl ⟨by decide, by decide⟩ ?_
  refine v_idiv F dX11_easterOf_22 (by decide) ?_
  refine v_isub F dX11_easterOf_23 ?_
  refine v_iconst F dX11_easterOf_24 ⟨by decide, by decide⟩ ?_
  refine v_iadd F dX11_easterOf_25 ?_
  refine v_iconst F dX11_easterOf_26 ⟨by decide, by decide⟩ ?_
  refine v_idiv F dX11_easterOf_27 (by decide) ?_
  obtain ⟨x4, ex4, h⟩ := lv_some h
  refine v_nI ex4 ?_
  refine v_istore F dX11_easterOf_28 (Nat.le_of_ble_eq_true rfl) (L' := [mI a1, mI x1, mI x2, mI x3, mI x4, mU, mU, mU, mU]) rfl ?_
  refine v_bipush F dX11_easterOf_30 rfl ⟨by decide, by decide⟩ ?_
  refine v_iload_n F dX11_easterOf_32 rfl rfl ?_
  refine v_imul F dX11_easterOf_33 ?_
  refine v_iload_n F dX11_easterOf_34 rfl rfl ?_
  refine v_iadd F dX11_easterOf_35 ?_
  refine v_iload_n F dX11_easterOf_36 rfl rfl ?_
  refine v_iconst F dX11_easterOf_37 ⟨by decide, by decide⟩ ?_
  refine v_idiv F dX11_easterOf_38 (by decide) ?_
  refine v_isub F dX11_easterOf_39 ?_
  refine v_iload F dX11_easterOf_40 rfl ?_
  refine v_isub F dX11_easterOf_42 ?_
  refine v_bipush F dX11_easterOf_43 rfl ⟨by decide, by decide⟩ ?_
  refine v_iadd F dX11_easterOf_45 ?_
  refine v_bipush F dX11_easterOf_46 rfl ⟨by decide, by decide⟩ ?_
  refine v_irem F dX11_easterOf_48 (by decide) ?_
  obtain ⟨x5, ex5, h⟩ := lv_some h
  refine v_nI ex5 ?_
  refine v_istore F dX11_easterOf_49 (Nat.le_of_ble_eq_true rfl) (L' := [mI a1, mI x1, mI x2, mI x3, mI x4, mI x5, mU, mU, mU]) rfl ?_
  refine v_bipush F dX11_easterOf_51 rfl ⟨by decide, by decide⟩ ?_
  refine v_iconst F dX11_easterOf_53 ⟨by decide, by decide⟩ ?_
  refine v_iload_n F dX11_easterOf_54 rfl rfl ?_
  refine v_iconst F dX11_easterOf_55 ⟨by decide, by decide⟩ ?_
  refine v_irem F dX11_easterOf_56 (by decide) ?_
  refine v_imul F dX11_easterOf_57 ?_
  refine v_iadd F dX11_easterOf_58 ?_
  refine v_iconst F dX11_easterOf_59 ⟨by decide, by decide⟩ ?_
  refine v_iload_n F dX11_easterOf_60 rfl rfl ?_
  refine v_iconst F dX11_easterOf_61 ⟨by decide, by decide⟩ ?_
  refine v_idiv F dX11_easterOf_62 (by decide) ?_
  refine v_imul F dX11_easterOf_63 ?_
  refine v_iadd F dX11_easterOf_64 ?_
  refine v_iload F dX11_easterOf_65 rfl ?_
  refine v_isub F dX11_easterOf_67 ?_
  refine v_iload_n F dX11_easterOf_68 rfl rfl ?_
  refine v_iconst F dX11_easterOf_69 ⟨by decide, by decide⟩ ?_
  refine v_irem F dX11_easterOf_70 (by decide) ?_
  refine v_isub F dX11_easterOf_71 ?_
  refine v_bipush F dX11_easterOf_72 rfl ⟨by decide, by decide⟩ ?_
  refine v_irem F dX11_easterOf_74 (by decide) ?_
  obtain ⟨x6, ex6, h⟩ := lv_some h
  refine v_nI ex6 ?_
  refine v_istore F dX11_easterOf_75 (Nat.le_of_ble_eq_true rfl) (L' := [mI a1, mI x1, mI x2, mI x3, mI x4, mI x5, mI x6, mU, mU]) rfl ?_
  refine v_iload_n F dX11_easterOf_77 rfl rfl ?_
  refine v_bipush F dX11_easterOf_78 rfl ⟨by decide, by decide⟩ ?_
  refine v_iload F dX11_easterOf_80 rfl ?_
  refine v_imul F dX11_easterOf_82 ?_
  refine v_iadd F dX11_easterOf_83 ?_
  refine v_bipush F dX11_easterOf_84 rfl ⟨by decide, by decide⟩ ?_
  refine v_iload F dX11_easterOf_86 rfl ?_
  refine v_imul F dX11_easterOf_88 ?_
  refine v_iadd F dX11_easterOf_89 ?_
  refine v_sipush F dX11_easterOf_90 rfl ⟨by decide, by decide⟩ ?_
  refine v_idiv F dX11_easterOf_93 (by decide) ?_
  obtain ⟨x7, ex7, h⟩ := lv_some h
  refine v_nI ex7 ?_
  refine v_istore F dX11_easterOf_94 (Nat.le_of_ble_eq_true rfl) (L' := [mI a1, mI x1, mI x2, mI x3, mI x4, mI x5, mI x6, mI x7, mU]) rfl ?_
  refine v_iload F dX11_easterOf_96 rfl ?_
  refine v_iload F dX11_easterOf_98 rfl ?_
  refine v_iadd F dX11_easterOf_100 ?_
  refine v_bipush F dX11_easterOf_101 rfl ⟨by decide, by decide⟩ ?_
  refine v_iload F dX11_easterOf_103 rfl ?_
  refine v_imul F dX11_easterOf_105 ?_
  refine v_isub F dX11_easterOf_106 ?_
  refine v_bipush F dX11_easterOf_107 rfl ⟨by decide, by decide⟩ ?_
  refine v_iadd F dX11_easterOf_109 ?_
  obtain ⟨x8, ex8, h⟩ := lv_some h
  refine v_nI ex8 ?_
  refine v_istore F dX11_easterOf_110 (Nat.le_of_ble_eq_true rfl) (L' := [mI a1, mI x1, mI x2, mI x3, mI x4, mI x5, mI x6, mI x7, mI x8]) rfl ?_
  refine v_iload_n F dX11_easterOf_112 rfl rfl ?_
  refine v_iload F dX11_easterOf_113 rfl ?_
  refine v_bipush F dX11_easterOf_115 rfl ⟨by decide, by decide⟩ ?_
  refine v_idiv F dX11_easterOf_117 (by decide) ?_
  refine v_iload F dX11_easterOf_118 rfl ?_
  refine v_bipush F dX11_easterOf_120 rfl ⟨by decide, by decide⟩ ?_
  refine v_irem F dX11_easterOf_122 (by decide) ?_
  refine v_iconst F dX11_easterOf_123 ⟨by decide, by decide⟩ ?_
  refine v_iadd F dX11_easterOf_124 ?_
  obtain ⟨x9, hc10, h⟩ := b1_some h
  refine v_callSv F dX11_easterOf_125 cs_X11_48 rfl (vm_X11_dayOf hc10) rfl (rOk.of rfl) ?_
  cases h
  cases (show _ = r from K)
  exact v_iret F dX11_easterOf_128
theorem fX11_takePlain_64_ok {w : Wd} {l : Launch} {G : Cx} {d m dd : Dt} {a1 s1 : Int} {d' : Dt} {r : Int} {x : (Dt × Int)} (F : Fx w G cX11_takePlain RX11 3 (some .boolean) { frames := 3, cells := 0, slots := 0, locals := 65 }) (hX : WF dd m) (hp : PB m 1545 11) (h : fX11_takePlain_64 d a1 s1 = some x) (K : (fun q => q = (d', r)) x) : V w l WF G (QM w G WF (some (mI r)) d' m 0 0) d m 0 0 64 [mU, mU, mU] [mI s1, mA 1545] := by
  unfold fX11_takePlain_64 at h
  obtain ⟨d18, ed18, h⟩ := sd_some h
  refine pf_X11_255 F dX11_takePlain_64 hp ?_
  refine v_nD ed18 ?_
  refine v_iconst F dX11_takePlain_67 ⟨by decide, by decide⟩ ?_
  cases h
  cases (show _ = (d', r) from K)
  exact v_zret F (Or.inr rfl) dX11_takePlain_68
theorem vm_X11_takePlain {w : Wd} {l : Launch} {d m : Dt} {a1 : Int} {d' : Dt} {r : Int} (hp : PB m 1545 11) (h : fX11_takePlain d a1 = some (d', r)) : VM w l WF yX11_takePlain cX11_takePlain 3 (some .boolean) 3 65 0 0 d m [mA 1545, mI a1] (some (mI r)) d' m := by
  obtain ⟨x, h, K⟩ : ∃ x, fX11_takePlain d a1 = some x ∧ x = (d', r) := ⟨_, h, rfl⟩
  refine VM.of (L := [mA 1545, mI a1, mU]) (by decide +kernel) rfl (Nat.le_of_ble_eq_true rfl) fun G F _ => v_fact fun _ hX _ _ => ?_
  unfold fX11_takePlain at h
  refine v_aload_n F dX11_takePlain_0 rfl rfl ?_
  refine v_dup_A F dX11_takePlain_1 ?_
  refine gf_X11_188 F dX11_takePlain_2 hp ?_
  refine v_iconst F dX11_takePlain_5 ⟨by decide, by decide⟩ ?_
  refine v_iadd F dX11_takePlain_6 ?_
  obtain ⟨d1, ed1, h⟩ := sd_some h
  refine pf_X11_188 F dX11_takePlain_7 hp ?_
  refine v_nD ed1 ?_
  refine v_aload_n F dX11_takePlain_10 rfl rfl ?_
  obtain ⟨d2, x4, hc3, h⟩ := b2_some h
  refine v_callVv (c := 11) F dX11_takePlain_11 cv_X11_228 rfl (PB.ob hp hX (Nat.le_of_ble_eq_true rfl)) (Nat.le_of_ble_eq_true rfl) rfl (vm_X11_takeNumber hp hc3) rfl (rOk.of rfl) ?_
  refine v_if_ne F dX11_takePlain_14 rfl (fun hq5 => ?_) (fun hq5 => ?_)
  · rw [if_neg hq5] at h
    refine v_aload_n F dX11_takePlain_19 rfl rfl ?_
    refine gf_X11_218 F dX11_takePlain_20 hp ?_
    obtain ⟨x6, ex6, h⟩ := lv_some h
    refine v_nI ex6 ?_
    refine v_istore_n F dX11_takePlain_23 rfl (Nat.le_of_ble_eq_true rfl) (L' := [mA 1545, mI a1, mI x6]) rfl ?_
    refine v_aload_n F dX11_takePlain_24 rfl rfl ?_
    refine v_bipush F dX11_takePlain_25 rfl ⟨by decide, by decide⟩ ?_
    obtain ⟨d7, x9, hc8, h⟩ := b2_some h
    refine v_callVv (c := 11) F dX11_takePlain_27 cv_X11_275 rfl (PB.ob hp hX (Nat.le_of_ble_eq_true rfl)) (Nat.le_of_ble_eq_true rfl) rfl (vm_X11_takeSign hp hc8) rfl (rOk.of rfl) ?_
    refine v_if_eq F dX11_takePlain_30 rfl (fun hq10 => ?_) (fun hq10 => ?_)
    · rw [if_pos hq10] at h
      refine v_iconst F dX11_takePlain_40 ⟨by decide, by decide⟩ ?_
      cases h
      cases (show _ = (d', r) from K)
      exact v_zret F (Or.inl rfl) dX11_takePlain_41
    · rw [if_neg hq10] at h
      refine v_aload_n F dX11_takePlain_33 rfl rfl ?_
      obtain ⟨d11, x13, hc12, h⟩ := b2_some h
      refine v_callVv (c := 11) F dX11_takePlain_34 cv_X11_228 rfl (PB.ob hp hX (Nat.le_of_ble_eq_true rfl)) (Nat.le_of_ble_eq_true rfl) rfl (vm_X11_takeNumber hp hc12) rfl (rOk.of rfl) ?_
      refine v_if_ne F dX11_takePlain_37 rfl (fun hq14 => ?_) (fun hq14 => ?_)
      · rw [if_neg hq14] at h
        refine v_aload_n F dX11_takePlain_42 rfl rfl ?_
        refine v_iload_n F dX11_takePlain_43 rfl rfl ?_
        refine v_sipush F dX11_takePlain_44 rfl ⟨by decide, by decide⟩ ?_
        refine v_icmp_ge F dX11_takePlain_47 rfl (fun hq15 => ?_) (fun hq15 => ?_)
        · rw [if_pos hq15] at h
          refine v_iload_n F dX11_takePlain_55 rfl rfl ?_
          refine v_iload_n F dX11_takePlain_56 rfl rfl ?_
          refine v_aload_n F dX11_takePlain_57 rfl rfl ?_
          refine gf_X11_218 F dX11_takePlain_58 hp ?_
          obtain ⟨x16, hc17, h⟩ := b1_some h
          refine v_callSv F dX11_takePlain_61 cs_X11_48 rfl (vm_X11_dayOf hc17) rfl (rOk.of rfl) ?_
          refine v_fgt (L' := [mU, mU, mU]) ⟨Or.inr rfl, Or.inr rfl, Or.inr rfl, trivial⟩ ?_
          exact fX11_takePlain_64_ok F hX hp h K
        · rw [if_neg hq15] at h
          refine v_ldc (n := (-2147483648)) F dX11_takePlain_50 q2483 rfl ⟨by decide, by decide⟩ ?_
          refine v_goto F dX11_takePlain_52 rfl ?_
          refine v_fgt (L' := [mU, mU, mU]) ⟨Or.inr rfl, Or.inr rfl, Or.inr rfl, trivial⟩ ?_
          exact fX11_takePlain_64_ok F hX hp h K
      · rw [if_pos hq14] at h
        refine v_iconst F dX11_takePlain_40 ⟨by decide, by decide⟩ ?_
        cases h
        cases (show _ = (d', r) from K)
        exact v_zret F (Or.inl rfl) dX11_takePlain_41
  · rw [if_pos hq5] at h
    refine v_iconst F dX11_takePlain_17 ⟨by decide, by decide⟩ ?_
    cases h
    cases (show _ = (d', r) from K)
    exact v_zret F (Or.inl rfl) dX11_takePlain_18
theorem fX11_weekdayName_61_ok {w : Wd} {l : Launch} {X : Dt → Dt → Prop} {G : Cx} {d m : Dt} {a1 s0 : Int} {r : Int} {x : Int} (F : Fx w G cX11_weekdayName RX11 1 (some (.object "java/lang/String")) { frames := 0, cells := 0, slots := 0, locals := 0 }) (h : fX11_weekdayName_61 a1 s0 = x) (K : (fun q => q = r) x) : V w l X G (QM w G X (some (mA r)) d m 0 0) d m 0 0 61 [mU] [mA s0] := by
  unfold fX11_weekdayName_61 at h
  subst h
  cases (show _ = r from K)
  exact v_aret F rfl (Or.inl ⟨_, rfl⟩) dX11_weekdayName_61
theorem vm_X11_weekdayName {w : Wd} {l : Launch} {X : Dt → Dt → Prop} {d m : Dt} {a1 : Int} : VM w l X yX11_weekdayName cX11_weekdayName 1 (some (.object "java/lang/String")) 0 0 0 0 d m [mI a1] (some (mA (fX11_weekdayName a1))) d m := by
  obtain ⟨r, hr⟩ : ∃ r, fX11_weekdayName a1 = r := ⟨_, rfl⟩
  rw [hr]
  obtain ⟨x, h, K⟩ : ∃ x, fX11_weekdayName a1 = x ∧ x = r := ⟨_, hr, rfl⟩
  refine VM.of (L := [mI a1]) (by decide +kernel) rfl (Nat.le_of_ble_eq_true rfl) fun G F _ => ?_
  unfold fX11_weekdayName at h
  refine v_iload_n F dX11_weekdayName_0 rfl rfl ?_
  refine v_if_ne F dX11_weekdayName_1 rfl (fun hq1 => ?_) (fun hq1 => ?_)
  · rw [if_neg hq1] at h
    refine v_iload_n F dX11_weekdayName_9 rfl rfl ?_
    refine v_iconst F dX11_weekdayName_10 ⟨by decide, by decide⟩ ?_
    refine v_icmp_ne F dX11_weekdayName_11 rfl (fun hq2 => ?_) (fun hq2 => ?_)
    · rw [if_neg hq2] at h
      refine v_iload_n F dX11_weekdayName_19 rfl rfl ?_
      refine v_iconst F dX11_weekdayName_20 ⟨by decide, by decide⟩ ?_
      refine v_icmp_ne F dX11_weekdayName_21 rfl (fun hq3 => ?_) (fun hq3 => ?_)
      · rw [if_neg hq3] at h
        refine v_iload_n F dX11_weekdayName_29 rfl rfl ?_
        refine v_iconst F dX11_weekdayName_30 ⟨by decide, by decide⟩ ?_
        refine v_icmp_ne F dX11_weekdayName_31 rfl (fun hq4 => ?_) (fun hq4 => ?_)
        · rw [if_neg hq4] at h
          refine v_iload_n F dX11_weekdayName_39 rfl rfl ?_
          refine v_iconst F dX11_weekdayName_40 ⟨by decide, by decide⟩ ?_
          refine v_icmp_ne F dX11_weekdayName_41 rfl (fun hq5 => ?_) (fun hq5 => ?_)
          · rw [if_neg hq5] at h
            refine v_iload_n F dX11_weekdayName_49 rfl rfl ?_
            refine v_iconst F dX11_weekdayName_50 ⟨by decide, by decide⟩ ?_
            refine v_icmp_ne F dX11_weekdayName_51 rfl (fun hq6 => ?_) (fun hq6 => ?_)
            · rw [if_neg hq6] at h
              refine v_lds (tx := "SUN") (a := (-70)) F dX11_weekdayName_59 (List.mem_of_getElem? (i := 71) rfl) (by decide) ?_
              refine v_fgt (L' := [mU]) ⟨Or.inr rfl, trivial⟩ ?_
              exact fX11_weekdayName_61_ok F h K
            · rw [if_pos hq6] at h
              refine v_lds (tx := "SAT") (a := (-68)) F dX11_weekdayName_54 (List.mem_of_getElem? (i := 70) rfl) (by decide) ?_
              refine v_goto F dX11_weekdayName_56 rfl ?_
              refine v_fgt (L' := [mU]) ⟨Or.inr rfl, trivial⟩ ?_
              exact fX11_weekdayName_61_ok F h K
          · rw [if_pos hq5] at h
            refine v_lds (tx := "FRI") (a := (-66)) F dX11_weekdayName_44 (List.mem_of_getElem? (i := 69) rfl) (by decide) ?_
            refine v_goto F dX11_weekdayName_46 rfl ?_
            refine v_fgt (L' := [mU]) ⟨Or.inr rfl, trivial⟩ ?_
            exact fX11_weekdayName_61_ok F h K
        · rw [if_pos hq4] at h
          refine v_lds (tx := "THU") (a := (-64)) F dX11_weekdayName_34 (List.mem_of_getElem? (i := 68) rfl) (by decide) ?_
          refine v_goto F dX11_weekdayName_36 rfl ?_
          refine v_fgt (L' := [mU]) ⟨Or.inr rfl, trivial⟩ ?_
          exact fX11_weekdayName_61_ok F h K
      · rw [if_pos hq3] at h
        refine v_lds (tx := "WED") (a := (-62)) F dX11_weekdayName_24 (List.mem_of_getElem? (i := 67) rfl) (by decide) ?_
        refine v_goto F dX11_weekdayName_26 rfl ?_
        refine v_fgt (L' := [mU]) ⟨Or.inr rfl, trivial⟩ ?_
        exact fX11_weekdayName_61_ok F h K
    · rw [if_pos hq2] at h
      refine v_lds (tx := "TUE") (a := (-60)) F dX11_weekdayName_14 (List.mem_of_getElem? (i := 66) rfl) (by decide) ?_
      refine v_goto F dX11_weekdayName_16 rfl ?_
      refine v_fgt (L' := [mU]) ⟨Or.inr rfl, trivial⟩ ?_
      exact fX11_weekdayName_61_ok F h K
  · rw [if_pos hq1] at h
    refine v_lds (tx := "MON") (a := (-58)) F dX11_weekdayName_4 (List.mem_of_getElem? (i := 65) rfl) (by decide) ?_
    refine v_goto F dX11_weekdayName_6 rfl ?_
    refine v_fgt (L' := [mU]) ⟨Or.inr rfl, trivial⟩ ?_
    exact fX11_weekdayName_61_ok F h K
theorem ps_X11_weekdayName {a1 : Int} : isS (fX11_weekdayName a1) := by
  show isSb _ = true
  unfold fX11_weekdayName
  by_cases h0 : a1 = 0
  · rw [if_pos h0]; rfl
  rw [if_neg h0]
  by_cases h1 : a1 = 1
  · rw [if_pos h1]; rfl
  rw [if_neg h1]
  by_cases h2 : a1 = 2
  · rw [if_pos h2]; rfl
  rw [if_neg h2]
  by_cases h3 : a1 = 3
  · rw [if_pos h3]; rfl
  rw [if_neg h3]
  by_cases h4 : a1 = 4
  · rw [if_pos h4]; rfl
  rw [if_neg h4]
  by_cases h5 : a1 = 5
  · rw [if_pos h5]; rfl
  rw [if_neg h5]
  rfl
def fX11_takeWeekday_2P (w : Wd) (l : Launch) (G : Cx) (Q : State → Prop) (m : Dt) (s : Dt × Int) : Prop := V w l WF G Q s.1 m 0 0 2 [mA 1545, mI (s.2)] []
theorem fX11_takeWeekday_2f_ok {w : Wd} {l : Launch} {G : Cx} {m dd : Dt} {d' : Dt} {r : Int} {s : Dt × Int} {x : ((Dt × Int) ⊕ (Dt × Int))} (F : Fx w G cX11_takeWeekday RX11 2 (some .int) { frames := 6, cells := 0, slots := 0, locals := 129 }) (hX : WF dd m) (hp : PB m 1545 11) (h : fX11_takeWeekday_2f s = some x) (K : (Sum.elim (fX11_takeWeekday_2P w l G (QM w G WF (some (mI r)) d' m 0 0) m) (fun q => q = (d', r))) x) : V w l WF G (QM w G WF (some (mI r)) d' m 0 0) s.1 m 0 0 2 [mA 1545, mI (s.2)] [] := by
  obtain ⟨d, v1⟩ := s
  unfold fX11_takeWeekday_2f at h
  dsimp only at h
  refine v_iload_n F dX11_takeWeekday_2 rfl rfl ?_
  refine v_bipush F dX11_takeWeekday_3 rfl ⟨by decide, by decide⟩ ?_
  refine v_icmp_ge F dX11_takeWeekday_5 rfl (fun hq1 => ?_) (fun hq1 => ?_)
  · rw [if_pos hq1] at h
    obtain ⟨z, hu, ez⟩ := up_some h
    clear h
    subst ez
    have h := hu
    clear hu
    refine v_iconst F dX11_takeWeekday_27 ⟨by decide, by decide⟩ ?_
    cases h
    cases (show _ = (d', r) from K)
    exact v_iret F dX11_takeWeekday_28
  · rw [if_neg hq1] at h
    refine v_aload_n F dX11_takeWeekday_8 rfl rfl ?_
    refine v_iload_n F dX11_takeWeekday_9 rfl rfl ?_
    refine v_callSv F dX11_takeWeekday_10 cs_X11_245 rfl (vm_X11_weekdayName) rfl (rOk.of rfl) ?_
    obtain ⟨d2, x4, hc3, h⟩ := b2_some h
    refine v_callVv (c := 11) F dX11_takeWeekday_13 cv_X11_249 rfl (PB.ob hp hX (Nat.le_of_ble_eq_true rfl)) (Nat.le_of_ble_eq_true rfl) rfl (vm_X11_mayWord hp (ps_X11_weekdayName) hc3) rfl (rOk.of rfl) ?_
    refine v_if_eq F dX11_takeWeekday_16 rfl (fun hq5 => ?_) (fun hq5 => ?_)
    · rw [if_pos hq5] at h
      obtain ⟨x6, ex6, h⟩ := lv_some h
      refine v_iincN F dX11_takeWeekday_21 (Nat.le_of_ble_eq_true rfl) rfl ex6 (L' := [mA 1545, mI x6]) rfl ?_
      refine v_goto F dX11_takeWeekday_24 rfl ?_
      cases h
      exact K
    · rw [if_neg hq5] at h
      obtain ⟨z, hu, ez⟩ := up_some h
      clear h
      subst ez
      have h := hu
      clear hu
      refine v_iload_n F dX11_takeWeekday_19 rfl rfl ?_
      cases h
      cases (show _ = (d', r) from K)
      exact v_iret F dX11_takeWeekday_20
theorem fX11_takeWeekday_2_ok {w : Wd} {l : Launch} {G : Cx} {d m dd : Dt} {v1 : Int} {d' : Dt} {r : Int} {x : (Dt × Int)} (F : Fx w G cX11_takeWeekday RX11 2 (some .int) { frames := 6, cells := 0, slots := 0, locals := 129 }) (hX : WF dd m) (hp : PB m 1545 11) (h : fX11_takeWeekday_2 d v1 = some x) (K : (fun q => q = (d', r)) x) : V w l WF G (QM w G WF (some (mI r)) d' m 0 0) d m 0 0 2 [mA 1545, mI v1] [] := by
  unfold fX11_takeWeekday_2 at h
  exact loop_ok (P := fX11_takeWeekday_2P w l G (QM w G WF (some (mI r)) d' m 0 0) m) (fun s x hx h1 h2 => fX11_takeWeekday_2f_ok F hX hp hx (by
    cases x with
    | inl s' => exact h1 s' rfl
    | inr z => cases h2 z rfl; exact K)) h
theorem vm_X11_takeWeekday {w : Wd} {l : Launch} {d m : Dt} {d' : Dt} {r : Int} (hp : PB m 1545 11) (h : fX11_takeWeekday d = some (d', r)) : VM w l WF yX11_takeWeekday cX11_takeWeekday 2 (some .int) 6 129 0 0 d m [mA 1545] (some (mI r)) d' m := by
  obtain ⟨x, h, K⟩ : ∃ x, fX11_takeWeekday d = some x ∧ x = (d', r) := ⟨_, h, rfl⟩
  refine VM.of (L := [mA 1545, mU]) (by decide +kernel) rfl (Nat.le_of_ble_eq_true rfl) fun G F _ => v_fact fun _ hX _ _ => ?_
  unfold fX11_takeWeekday at h
  refine v_iconst F dX11_takeWeekday_0 ⟨by decide, by decide⟩ ?_
  refine v_istore_n F dX11_takeWeekday_1 rfl (Nat.le_of_ble_eq_true rfl) (L' := [mA 1545, mI 0]) rfl ?_
  exact fX11_takeWeekday_2_ok F hX hp h K
theorem vm_X11_weekdayOf {w : Wd} {l : Launch} {X : Dt → Dt → Prop} {d m : Dt} {a1 : Int} {r : Int} (h : fX11_weekdayOf a1 = some r) : VM w l X yX11_weekdayOf cX11_weekdayOf 1 (some .int) 1 22 0 0 d m [mI a1] (some (mI r)) d m := by
  obtain ⟨x, h, K⟩ : ∃ x, fX11_weekdayOf a1 = some x ∧ x = r := ⟨_, h, rfl⟩
  refine VM.of (L := [mI a1]) (by decide +kernel) rfl (Nat.le_of_ble_eq_true rfl) fun G F _ => ?_
  unfold fX11_weekdayOf at h
  refine v_iload_n F dX11_weekdayOf_0 rfl rfl ?_
  refine v_iconst F dX11_weekdayOf_1 ⟨by decide, by decide⟩ ?_
  refine v_iadd F dX11_weekdayOf_2 ?_
  refine v_bipush F dX11_weekdayOf_3 rfl ⟨by decide, by decide⟩ ?_
  obtain ⟨x1, hc2, h⟩ := b1_some h
  refine v_callSv F dX11_weekdayOf_5 cs_X11_43 rfl (vm_J9_floorMod hc2) rfl (rOk.of rfl) ?_
  cases h
  cases (show _ = r from K)
  exact v_iret F dX11_weekdayOf_8
theorem fX11_nthOf_38_ok {w : Wd} {l : Launch} {G : Cx} {d m dd : Dt} {a1 a2 a3 a4 : Int} {r : Int} {x : Int} (F : Fx w G cX11_nthOf RX11 8 (some .int) { frames := 3, cells := 0, slots := 0, locals := 65 }) (hX : WF dd m) (h : fX11_nthOf_38 a1 a2 a3 a4 = some x) (K : (fun q => q = r) x) : V w l WF G (QM w G WF (some (mI r)) d m 0 0) d m 0 0 38 [mU, mU, mU, mU, mU, mU, mU, mU] [] := by
  unfold fX11_nthOf_38 at h
  refine v_ldc (n := (-2147483648)) F dX11_nthOf_38 q2483 rfl ⟨by decide, by decide⟩ ?_
  cases h
  cases (show _ = r from K)
  exact v_iret F dX11_nthOf_40
def fX11_nthOf_51P (w : Wd) (l : Launch) (G : Cx) (Q : State → Prop) (d : Dt) (m : Dt) (a1 a2 a3 a4 : Int) (s : Int × Int × Int) : Prop := V w l WF G Q d m 0 0 51 [mI a1, mI a2, mI a3, mI a4, mI (s.1), mI (s.2.1), mI (s.2.2), mU] []
theorem fX11_nthOf_51f_ok {w : Wd} {l : Launch} {G : Cx} {d m dd : Dt} {a1 a2 a3 a4 : Int} {r : Int} {s : Int × Int × Int} {x : ((Int × Int × Int) ⊕ Int)} (F : Fx w G cX11_nthOf RX11 8 (some .int) { frames := 3, cells := 0, slots := 0, locals := 65 }) (hX : WF dd m) (h : fX11_nthOf_51f a1 a2 a3 a4 s = some x) (K : (Sum.elim (fX11_nthOf_51P w l G (QM w G WF (some (mI r)) d m 0 0) d m a1 a2 a3 a4) (fun q => q = r)) x) : V w l WF G (QM w G WF (some (mI r)) d m 0 0) d m 0 0 51 [mI a1, mI a2, mI a3, mI a4, mI (s.1), mI (s.2.1), mI (s.2.2), mU] [] := by
  obtain ⟨v4, v5, v6⟩ := s
  unfold fX11_nthOf_51f at h
  dsimp only at h
  refine v_iload F dX11_nthOf_51 rfl ?_
  refine v_iload_n F dX11_nthOf_53 rfl rfl ?_
  refine v_iload_n F dX11_nthOf_54 rfl rfl ?_
  refine v_callSv F dX11_nthOf_55 cs_X11_38 rfl (vm_X11_monthDays) rfl (rOk.of rfl) ?_
  refine v_icmp_gt F dX11_nthOf_58 rfl (fun hq4 => ?_) (fun hq4 => ?_)
  · rw [if_pos hq4] at h
    obtain ⟨z, hu, ez⟩ := up_some h
    clear h
    subst ez
    have h := hu
    clear hu
    refine v_iload F dX11_nthOf_112 rfl ?_
    cases h
    cases (show _ = r from K)
    exact v_iret F dX11_nthOf_114
  · rw [if_neg hq4] at h
    refine v_iload_n F dX11_nthOf_61 rfl rfl ?_
    refine v_iload_n F dX11_nthOf_62 rfl rfl ?_
    refine v_iload F dX11_nthOf_63 rfl ?_
    obtain ⟨x5, hc6, h⟩ := b1_some h
    refine v_callSv F dX11_nthOf_65 cs_X11_48 rfl (vm_X11_dayOf hc6) rfl (rOk.of rfl) ?_
    refine v_istore F dX11_nthOf_68 (Nat.le_of_ble_eq_true rfl) (L' := [mI a1, mI a2, mI a3, mI a4, mI v4, mI v5, mI v6, mI x5]) rfl ?_
    refine v_iload F dX11_nthOf_70 rfl ?_
    obtain ⟨x7, hc8, h⟩ := b1_some h
    refine v_callSv F dX11_nthOf_72 cs_X11_56 rfl (vm_X11_weekdayOf hc8) rfl (rOk.of rfl) ?_
    refine v_iload_n F dX11_nthOf_75 rfl rfl ?_
    refine v_icmp_eq F dX11_nthOf_76 rfl (fun hq9 => ?_) (fun hq9 => ?_)
    · rw [if_pos hq9] at h
      obtain ⟨x10, ex10, h⟩ := lv_some h
      refine v_iincN F dX11_nthOf_82 (Nat.le_of_ble_eq_true rfl) rfl ex10 (L' := [mI a1, mI a2, mI a3, mI a4, mI v4, mI x10, mI v6, mI x5]) rfl ?_
      refine v_iload_n F dX11_nthOf_85 rfl rfl ?_
      refine v_bipush F dX11_nthOf_86 rfl ⟨by decide, by decide⟩ ?_
      refine v_icmp_eq F dX11_nthOf_88 rfl (fun hq11 => ?_) (fun hq11 => ?_)
      · rw [if_pos hq11] at h
        refine v_iload F dX11_nthOf_97 rfl ?_
        refine v_goto F dX11_nthOf_99 rfl ?_
        refine v_istore F dX11_nthOf_104 (Nat.le_of_ble_eq_true rfl) (L' := [mI a1, mI a2, mI a3, mI a4, mI x5, mI x10, mI v6, mI x5]) rfl ?_
        obtain ⟨x12, ex12, h⟩ := lv_some h
        refine v_iincN F dX11_nthOf_106 (Nat.le_of_ble_eq_true rfl) rfl ex12 (L' := [mI a1, mI a2, mI a3, mI a4, mI x5, mI x10, mI x12, mI x5]) rfl ?_
        refine v_goto F dX11_nthOf_109 rfl ?_
        cases h
        refine v_fgt (L' := [mI a1, mI a2, mI a3, mI a4, mI x5, mI x10, mI x12, mU]) ⟨Or.inl rfl, Or.inl rfl, Or.inl rfl, Or.inl rfl, Or.inl rfl, Or.inl rfl, Or.inl rfl, Or.inr rfl, trivial⟩ ?_
        exact K
      · rw [if_neg hq11] at h
        refine v_iload F dX11_nthOf_91 rfl ?_
        refine v_iload_n F dX11_nthOf_93 rfl rfl ?_
        refine v_icmp_ne F dX11_nthOf_94 rfl (fun hq13 => ?_) (fun hq13 => ?_)
        · rw [if_neg hq13] at h
          refine v_iload F dX11_nthOf_102 rfl ?_
          refine v_istore F dX11_nthOf_104 (Nat.le_of_ble_eq_true rfl) (L' := [mI a1, mI a2, mI a3, mI a4, mI v4, mI x10, mI v6, mI x5]) rfl ?_
          obtain ⟨x14, ex14, h⟩ := lv_some h
          refine v_iincN F dX11_nthOf_106 (Nat.le_of_ble_eq_true rfl) rfl ex14 (L' := [mI a1, mI a2, mI a3, mI a4, mI v4, mI x10, mI x14, mI x5]) rfl ?_
          refine v_goto F dX11_nthOf_109 rfl ?_
          cases h
          refine v_fgt (L' := [mI a1, mI a2, mI a3, mI a4, mI v4, mI x10, mI x14, mU]) ⟨Or.inl rfl, Or.inl rfl, Or.inl rfl, Or.inl rfl, Or.inl rfl, Or.inl rfl, Or.inl rfl, Or.inr rfl, trivial⟩ ?_
          exact K
        · rw [if_pos hq13] at h
          refine v_iload F dX11_nthOf_97 rfl ?_
          refine v_goto F dX11_nthOf_99 rfl ?_
          refine v_istore F dX11_nthOf_104 (Nat.le_of_ble_eq_true rfl) (L' := [mI a1, mI a2, mI a3, mI a4, mI x5, mI x10, mI v6, mI x5]) rfl ?_
          obtain ⟨x15, ex15, h⟩ := lv_some h
          refine v_iincN F dX11_nthOf_106 (Nat.le_of_ble_eq_true rfl) rfl ex15 (L' := [mI a1, mI a2, mI a3, mI a4, mI x5, mI x10, mI x15, mI x5]) rfl ?_
          refine v_goto F dX11_nthOf_109 rfl ?_
          cases h
          refine v_fgt (L' := [mI a1, mI a2, mI a3, mI a4, mI x5, mI x10, mI x15, mU]) ⟨Or.inl rfl, Or.inl rfl, Or.inl rfl, Or.inl rfl, Or.inl rfl, Or.inl rfl, Or.inl rfl, Or.inr rfl, trivial⟩ ?_
          exact K
    · rw [if_neg hq9] at h
      refine v_goto F dX11_nthOf_79 rfl ?_
      obtain ⟨x16, ex16, h⟩ := lv_some h
      refine v_iincN F dX11_nthOf_106 (Nat.le_of_ble_eq_true rfl) rfl ex16 (L' := [mI a1, mI a2, mI a3, mI a4, mI v4, mI v5, mI x16, mI x5]) rfl ?_
      refine v_goto F dX11_nthOf_109 rfl ?_
      cases h
      refine v_fgt (L' := [mI a1, mI a2, mI a3, mI a4, mI v4, mI v5, mI x16, mU]) ⟨Or.inl rfl, Or.inl rfl, Or.inl rfl, Or.inl rfl, Or.inl rfl, Or.inl rfl, Or.inl rfl, Or.inr rfl, trivial⟩ ?_
      exact K
theorem fX11_nthOf_51_ok {w : Wd} {l : Launch} {G : Cx} {d m dd : Dt} {a1 a2 a3 a4 v4 v5 v6 : Int} {r : Int} {x : Int} (F : Fx w G cX11_nthOf RX11 8 (some .int) { frames := 3, cells := 0, slots := 0, locals := 65 }) (hX : WF dd m) (h : fX11_nthOf_51 a1 a2 a3 a4 v4 v5 v6 = some x) (K : (fun q => q = r) x) : V w l WF G (QM w G WF (some (mI r)) d m 0 0) d m 0 0 51 [mI a1, mI a2, mI a3, mI a4, mI v4, mI v5, mI v6, mU] [] := by
  unfold fX11_nthOf_51 at h
  exact loop_ok (P := fX11_nthOf_51P w l G (QM w G WF (some (mI r)) d m 0 0) d m a1 a2 a3 a4) (fun s x hx h1 h2 => fX11_nthOf_51f_ok F hX hx (by
    cases x with
    | inl s' => exact h1 s' rfl
    | inr z => cases h2 z rfl; exact K)) h
theorem vm_X11_nthOf {w : Wd} {l : Launch} {d m : Dt} {a1 a2 a3 a4 : Int} {r : Int} (h : fX11_nthOf a1 a2 a3 a4 = some r) : VM w l WF yX11_nthOf cX11_nthOf 8 (some .int) 3 65 0 0 d m [mI a1, mI a2, mI a3, mI a4] (some (mI r)) d m := by
  obtain ⟨x, h, K⟩ : ∃ x, fX11_nthOf a1 a2 a3 a4 = some x ∧ x = r := ⟨_, h, rfl⟩
  refine VM.of (L := [mI a1, mI a2, mI a3, mI a4, mU, mU, mU, mU]) (by decide +kernel) rfl (Nat.le_of_ble_eq_true rfl) fun G F _ => v_fact fun _ hX _ _ => ?_
  unfold fX11_nthOf at h
  refine v_iload_n F dX11_nthOf_0 rfl rfl ?_
  refine v_i2l F dX11_nthOf_1 ?_
  refine v_ldc2 (n := 2000) F dX11_nthOf_2 q2607 rfl ⟨by decide, by decide⟩ ?_
  refine v_ldc2 (n := 2099) F dX11_nthOf_5 q2475 rfl ⟨by decide, by decide⟩ ?_
  refine v_callSv F dX11_nthOf_8 cs_X11_13 rfl (vm_X11_in) rfl (rOk.of rfl) ?_
  refine v_if_eq F dX11_nthOf_11 rfl (fun hq1 => ?_) (fun hq1 => ?_)
  · rw [if_pos hq1] at h
    refine v_fgt (L' := [mU, mU, mU, mU, mU, mU, mU, mU]) ⟨Or.inr rfl, Or.inr rfl, Or.inr rfl, Or.inr rfl, Or.inl rfl, Or.inl rfl, Or.inl rfl, Or.inl rfl, trivial⟩ ?_
    exact fX11_nthOf_38_ok F hX h K
  · rw [if_neg hq1] at h
    refine v_iload_n F dX11_nthOf_14 rfl rfl ?_
    refine v_i2l F dX11_nthOf_15 ?_
    refine v_lconst1 F dX11_nthOf_16 ?_
    refine v_ldc2 (n := 12) F dX11_nthOf_17 q2476 rfl ⟨by decide, by decide⟩ ?_
    refine v_callSv F dX11_nthOf_20 cs_X11_13 rfl (vm_X11_in) rfl (rOk.of rfl) ?_
    refine v_if_eq F dX11_nthOf_23 rfl (fun hq2 => ?_) (fun hq2 => ?_)
    · rw [if_pos hq2] at h
      refine v_fgt (L' := [mU, mU, mU, mU, mU, mU, mU, mU]) ⟨Or.inr rfl, Or.inr rfl, Or.inr rfl, Or.inr rfl, Or.inl rfl, Or.inl rfl, Or.inl rfl, Or.inl rfl, trivial⟩ ?_
      exact fX11_nthOf_38_ok F hX h K
    · rw [if_neg hq2] at h
      refine v_iload_n F dX11_nthOf_26 rfl rfl ?_
      refine v_i2l F dX11_nthOf_27 ?_
      refine v_lconst1 F dX11_nthOf_28 ?_
      refine v_ldc2 (n := 6) F dX11_nthOf_29 q2633 rfl ⟨by decide, by decide⟩ ?_
      refine v_callSv F dX11_nthOf_32 cs_X11_13 rfl (vm_X11_in) rfl (rOk.of rfl) ?_
      refine v_if_ne F dX11_nthOf_35 rfl (fun hq3 => ?_) (fun hq3 => ?_)
      · rw [if_neg hq3] at h
        refine v_ldc (n := (-2147483648)) F dX11_nthOf_41 q2483 rfl ⟨by decide, by decide⟩ ?_
        refine v_istore F dX11_nthOf_43 (Nat.le_of_ble_eq_true rfl) (L' := [mI a1, mI a2, mI a3, mI a4, mI (-2147483648), mU, mU, mU]) rfl ?_
        refine v_iconst F dX11_nthOf_45 ⟨by decide, by decide⟩ ?_
        refine v_istore F dX11_nthOf_46 (Nat.le_of_ble_eq_true rfl) (L' := [mI a1, mI a2, mI a3, mI a4, mI (-2147483648), mI 0, mU, mU]) rfl ?_
        refine v_iconst F dX11_nthOf_48 ⟨by decide, by decide⟩ ?_
        refine v_istore F dX11_nthOf_49 (Nat.le_of_ble_eq_true rfl) (L' := [mI a1, mI a2, mI a3, mI a4, mI (-2147483648), mI 0, mI 1, mU]) rfl ?_
        exact fX11_nthOf_51_ok F hX h K
      · rw [if_pos hq3] at h
        refine v_fgt (L' := [mU, mU, mU, mU, mU, mU, mU, mU]) ⟨Or.inr rfl, Or.inr rfl, Or.inr rfl, Or.inr rfl, Or.inl rfl, Or.inl rfl, Or.inl rfl, Or.inl rfl, trivial⟩ ?_
        exact fX11_nthOf_38_ok F hX h K
theorem fX11_takeDate_142_ok {w : Wd} {l : Launch} {G : Cx} {d m dd : Dt} {v2 : Int} {d' : Dt} {r : Int} {x : (Dt × Int)} (F : Fx w G cX11_takeDate RX11 5 (some .boolean) { frames := 7, cells := 0, slots := 0, locals := 150 }) (hX : WF dd m) (hp : PB m 1545 11) (h : fX11_takeDate_142 d v2 = some x) (K : (fun q => q = (d', r)) x) : V w l WF G (QM w G WF (some (mI r)) d' m 0 0) d m 0 0 142 [mA 1545, mU, mI v2, mU, mU] [] := by
  unfold fX11_takeDate_142 at h
  refine v_aload_n F dX11_takeDate_142 rfl rfl ?_
  obtain ⟨d16, x18, hc17, h⟩ := b2_some h
  refine v_callVv (c := 11) F dX11_takeDate_143 cv_X11_268 rfl (PB.ob hp hX (Nat.le_of_ble_eq_true rfl)) (Nat.le_of_ble_eq_true rfl) rfl (vm_X11_takeWeekday hp hc17) rfl (rOk.of rfl) ?_
  refine v_istore_n F dX11_takeDate_146 rfl (Nat.le_of_ble_eq_true rfl) (L' := [mA 1545, mU, mI v2, mI x18, mU]) rfl ?_
  refine v_iload_n F dX11_takeDate_147 rfl rfl ?_
  refine v_if_ge F dX11_takeDate_148 rfl (fun hq19 => ?_) (fun hq19 => ?_)
  · rw [if_pos hq19] at h
    refine v_aload_n F dX11_takeDate_156 rfl rfl ?_
    obtain ⟨d20, x22, hc21, h⟩ := b2_some h
    refine v_callVv (c := 11) F dX11_takeDate_157 cv_X11_228 rfl (PB.ob hp hX (Nat.le_of_ble_eq_true rfl)) (Nat.le_of_ble_eq_true rfl) rfl (vm_X11_takeNumber hp hc21) rfl (rOk.of rfl) ?_
    refine v_if_ne F dX11_takeDate_160 rfl (fun hq23 => ?_) (fun hq23 => ?_)
    · rw [if_neg hq23] at h
      refine v_aload_n F dX11_takeDate_165 rfl rfl ?_
      refine gf_X11_218 F dX11_takeDate_166 hp ?_
      obtain ⟨x24, ex24, h⟩ := lv_some h
      refine v_nI ex24 ?_
      refine v_istore F dX11_takeDate_169 (Nat.le_of_ble_eq_true rfl) (L' := [mA 1545, mU, mI v2, mI x18, mI x24]) rfl ?_
      refine v_aload_n F dX11_takeDate_171 rfl rfl ?_
      obtain ⟨d25, x27, hc26, h⟩ := b2_some h
      refine v_callVv (c := 11) F dX11_takeDate_172 cv_X11_228 rfl (PB.ob hp hX (Nat.le_of_ble_eq_true rfl)) (Nat.le_of_ble_eq_true rfl) rfl (vm_X11_takeNumber hp hc26) rfl (rOk.of rfl) ?_
      refine v_if_ne F dX11_takeDate_175 rfl (fun hq28 => ?_) (fun hq28 => ?_)
      · rw [if_neg hq28] at h
        refine v_aload_n F dX11_takeDate_180 rfl rfl ?_
        refine v_iload_n F dX11_takeDate_181 rfl rfl ?_
        refine v_iload_n F dX11_takeDate_182 rfl rfl ?_
        refine v_aload_n F dX11_takeDate_183 rfl rfl ?_
        refine gf_X11_218 F dX11_takeDate_184 hp ?_
        refine v_iload F dX11_takeDate_187 rfl ?_
        obtain ⟨x29, hc30, h⟩ := b1_some h
        refine v_callSv F dX11_takeDate_189 cs_X11_271 rfl (vm_X11_nthOf hc30) rfl (rOk.of rfl) ?_
        obtain ⟨d31, ed31, h⟩ := sd_some h
        refine pf_X11_255 F dX11_takeDate_192 hp ?_
        refine v_nD ed31 ?_
        refine v_iconst F dX11_takeDate_195 ⟨by decide, by decide⟩ ?_
        cases h
        cases (show _ = (d', r) from K)
        exact v_zret F (Or.inr rfl) dX11_takeDate_196
      · rw [if_pos hq28] at h
        refine v_iconst F dX11_takeDate_178 ⟨by decide, by decide⟩ ?_
        cases h
        cases (show _ = (d', r) from K)
        exact v_zret F (Or.inl rfl) dX11_takeDate_179
    · rw [if_pos hq23] at h
      refine v_iconst F dX11_takeDate_163 ⟨by decide, by decide⟩ ?_
      cases h
      cases (show _ = (d', r) from K)
      exact v_zret F (Or.inl rfl) dX11_takeDate_164
  · rw [if_neg hq19] at h
    refine v_aload_n F dX11_takeDate_151 rfl rfl ?_
    obtain ⟨d32, x34, hc33, h⟩ := b2_some h
    refine v_callVv (c := 11) F dX11_takeDate_152 cv_X11_210 rfl (PB.ob hp hX (Nat.le_of_ble_eq_true rfl)) (Nat.le_of_ble_eq_true rfl) rfl (vm_X11_miss hp hc33) rfl (rOk.of rfl) ?_
    obtain ⟨hb, h⟩ := ck_some h
    cases h
    cases (show _ = (d', r) from K)
    exact v_zret F hb dX11_takeDate_155
theorem fX11_takeDate_119_ok {w : Wd} {l : Launch} {G : Cx} {d m dd : Dt} {v1 s0 : Int} {d' : Dt} {r : Int} {x : (Dt × Int)} (F : Fx w G cX11_takeDate RX11 5 (some .boolean) { frames := 7, cells := 0, slots := 0, locals := 150 }) (hX : WF dd m) (hp : PB m 1545 11) (h : fX11_takeDate_119 d v1 s0 = some x) (K : (fun q => q = (d', r)) x) : V w l WF G (QM w G WF (some (mI r)) d' m 0 0) d m 0 0 119 [mA 1545, mI v1, mU, mU, mU] [mI s0] := by
  unfold fX11_takeDate_119 at h
  refine v_istore_n F dX11_takeDate_119 rfl (Nat.le_of_ble_eq_true rfl) (L' := [mA 1545, mI v1, mI s0, mU, mU]) rfl ?_
  refine v_iload_n F dX11_takeDate_120 rfl rfl ?_
  refine v_if_ne F dX11_takeDate_121 rfl (fun hq15 => ?_) (fun hq15 => ?_)
  · rw [if_neg hq15] at h
    refine v_fgt (L' := [mA 1545, mU, mI s0, mU, mU]) ⟨Or.inl rfl, Or.inr rfl, Or.inl rfl, Or.inl rfl, Or.inl rfl, trivial⟩ ?_
    exact fX11_takeDate_142_ok F hX hp h K
  · rw [if_pos hq15] at h
    refine v_aload_n F dX11_takeDate_124 rfl rfl ?_
    refine v_bipush F dX11_takeDate_125 rfl ⟨by decide, by decide⟩ ?_
    obtain ⟨x35, hc36, h⟩ := b1_some h
    refine v_callVv (c := 11) F dX11_takeDate_127 cv_X11_207 rfl (PB.ob hp hX (Nat.le_of_ble_eq_true rfl)) (Nat.le_of_ble_eq_true rfl) rfl (vm_X11_isSign hp hc36) rfl (rOk.of rfl) ?_
    refine v_if_eq F dX11_takeDate_130 rfl (fun hq37 => ?_) (fun hq37 => ?_)
    · rw [if_pos hq37] at h
      refine v_fgt (L' := [mA 1545, mU, mI s0, mU, mU]) ⟨Or.inl rfl, Or.inr rfl, Or.inl rfl, Or.inl rfl, Or.inl rfl, trivial⟩ ?_
      exact fX11_takeDate_142_ok F hX hp h K
    · rw [if_neg hq37] at h
      refine v_aload_n F dX11_takeDate_133 rfl rfl ?_
      refine v_aload_n F dX11_takeDate_134 rfl rfl ?_
      refine gf_X11_218 F dX11_takeDate_135 hp ?_
      obtain ⟨d38, x40, hc39, h⟩ := b2_some h
      refine v_callVv (c := 11) F dX11_takeDate_138 cv_X11_265 rfl (PB.ob hp hX (Nat.le_of_ble_eq_true rfl)) (Nat.le_of_ble_eq_true rfl) rfl (vm_X11_takePlain hp hc39) rfl (rOk.of rfl) ?_
      obtain ⟨hb, h⟩ := ck_some h
      cases h
      cases (show _ = (d', r) from K)
      exact v_zret F hb dX11_takeDate_141
theorem fX11_takeDate_94_ok {w : Wd} {l : Launch} {G : Cx} {d m dd : Dt} {v1 : Int} {d' : Dt} {r : Int} {x : (Dt × Int)} (F : Fx w G cX11_takeDate RX11 5 (some .boolean) { frames := 7, cells := 0, slots := 0, locals := 150 }) (hX : WF dd m) (hp : PB m 1545 11) (h : fX11_takeDate_94 d v1 = some x) (K : (fun q => q = (d', r)) x) : V w l WF G (QM w G WF (some (mI r)) d' m 0 0) d m 0 0 94 [mA 1545, mI v1, mU, mU, mU] [] := by
  unfold fX11_takeDate_94 at h
  refine v_iload_n F dX11_takeDate_94 rfl rfl ?_
  refine v_if_eq F dX11_takeDate_95 rfl (fun hq13 => ?_) (fun hq13 => ?_)
  · rw [if_pos hq13] at h
    refine v_aload_n F dX11_takeDate_103 rfl rfl ?_
    refine gf_X11_218 F dX11_takeDate_104 hp ?_
    refine v_iconst F dX11_takeDate_107 ⟨by decide, by decide⟩ ?_
    refine v_icmp_le F dX11_takeDate_108 rfl (fun hq14 => ?_) (fun hq14 => ?_)
    · rw [if_pos hq14] at h
      refine v_aload_n F dX11_takeDate_115 rfl rfl ?_
      refine gf_X11_218 F dX11_takeDate_116 hp ?_
      exact fX11_takeDate_119_ok F hX hp h K
    · rw [if_neg hq14] at h
      refine v_iconst F dX11_takeDate_111 ⟨by decide, by decide⟩ ?_
      refine v_goto F dX11_takeDate_112 rfl ?_
      exact fX11_takeDate_119_ok F hX hp h K
  · rw [if_neg hq13] at h
    refine v_bipush F dX11_takeDate_98 rfl ⟨by decide, by decide⟩ ?_
    refine v_goto F dX11_takeDate_100 rfl ?_
    exact fX11_takeDate_119_ok F hX hp h K
theorem fX11_takeDate_68_ok {w : Wd} {l : Launch} {G : Cx} {d m dd : Dt} {s1 : Int} {d' : Dt} {r : Int} {x : (Dt × Int)} (F : Fx w G cX11_takeDate RX11 5 (some .boolean) { frames := 7, cells := 0, slots := 0, locals := 150 }) (hX : WF dd m) (hp : PB m 1545 11) (h : fX11_takeDate_68 d s1 = some x) (K : (fun q => q = (d', r)) x) : V w l WF G (QM w G WF (some (mI r)) d' m 0 0) d m 0 0 68 [mU, mU, mU, mU, mU] [mI s1, mA 1545] := by
  unfold fX11_takeDate_68 at h
  obtain ⟨d50, ed50, h⟩ := sd_some h
  refine pf_X11_255 F dX11_takeDate_68 hp ?_
  refine v_nD ed50 ?_
  refine v_iconst F dX11_takeDate_71 ⟨by decide, by decide⟩ ?_
  cases h
  cases (show _ = (d', r) from K)
  exact v_zret F (Or.inr rfl) dX11_takeDate_72
theorem vm_X11_takeDate {w : Wd} {l : Launch} {d m : Dt} {d' : Dt} {r : Int} (hp : PB m 1545 11) (h : fX11_takeDate d = some (d', r)) : VM w l WF yX11_takeDate cX11_takeDate 5 (some .boolean) 7 150 0 0 d m [mA 1545] (some (mI r)) d' m := by
  obtain ⟨x, h, K⟩ : ∃ x, fX11_takeDate d = some x ∧ x = (d', r) := ⟨_, h, rfl⟩
  refine VM.of (L := [mA 1545, mU, mU, mU, mU]) (by decide +kernel) rfl (Nat.le_of_ble_eq_true rfl) fun G F _ => v_fact fun _ hX _ _ => ?_
  unfold fX11_takeDate at h
  refine v_aload_n F dX11_takeDate_0 rfl rfl ?_
  refine v_aload_n F dX11_takeDate_1 rfl rfl ?_
  refine gf_X11_161 F dX11_takeDate_2 hp (v := 1566) rfl ?_
  refine v_aload_n F dX11_takeDate_5 rfl rfl ?_
  refine gf_X11_188 F dX11_takeDate_6 hp ?_
  obtain ⟨x1, ex1, h⟩ := lv_some h
  refine v_nI ex1 ?_
  obtain ⟨hi2, h⟩ := ck_some h
  refine v_iald F dX11_takeDate_9 (ar_X11_25 hX hp) hi2 ?_
  obtain ⟨d3, ed3, h⟩ := sd_some h
  refine pf_X11_252 F dX11_takeDate_10 hp ?_
  refine v_nD ed3 ?_
  refine v_aload_n F dX11_takeDate_13 rfl rfl ?_
  refine v_ldc (n := (-2147483648)) F dX11_takeDate_14 q2483 rfl ⟨by decide, by decide⟩ ?_
  obtain ⟨d4, ed4, h⟩ := sd_some h
  refine pf_X11_255 F dX11_takeDate_16 hp ?_
  refine v_nD ed4 ?_
  refine v_aload_n F dX11_takeDate_19 rfl rfl ?_
  refine v_ldsw (tx := "EASTER") (a := (-36)) F dX11_takeDate_20 (List.mem_of_getElem? (i := 63) rfl) (by decide) ?_
  obtain ⟨d5, x7, hc6, h⟩ := b2_some h
  refine v_callVv (c := 11) F dX11_takeDate_23 cv_X11_249 rfl (PB.ob hp hX (Nat.le_of_ble_eq_true rfl)) (Nat.le_of_ble_eq_true rfl) rfl (vm_X11_mayWord hp (show isSb (-36) = true from rfl) hc6) rfl (rOk.of rfl) ?_
  refine v_if_eq F dX11_takeDate_26 rfl (fun hq8 => ?_) (fun hq8 => ?_)
  · rw [if_pos hq8] at h
    refine v_aload_n F dX11_takeDate_73 rfl rfl ?_
    refine v_ldsw (tx := "LAST") (a := (-34)) F dX11_takeDate_74 (List.mem_of_getElem? (i := 64) rfl) (by decide) ?_
    obtain ⟨d9, x11, hc10, h⟩ := b2_some h
    refine v_callVv (c := 11) F dX11_takeDate_77 cv_X11_249 rfl (PB.ob hp hX (Nat.le_of_ble_eq_true rfl)) (Nat.le_of_ble_eq_true rfl) rfl (vm_X11_mayWord hp (show isSb (-34) = true from rfl) hc10) rfl (rOk.of rfl) ?_
    refine v_istore_n F dX11_takeDate_80 rfl (Nat.le_of_ble_eq_true rfl) (L' := [mA 1545, mI x11, mU, mU, mU]) rfl ?_
    refine v_iload_n F dX11_takeDate_81 rfl rfl ?_
    refine v_if_ne F dX11_takeDate_82 rfl (fun hq12 => ?_) (fun hq12 => ?_)
    · rw [if_neg hq12] at h
      exact fX11_takeDate_94_ok F hX hp h K
    · rw [if_pos hq12] at h
      refine v_aload_n F dX11_takeDate_85 rfl rfl ?_
      obtain ⟨d41, x43, hc42, h⟩ := b2_some h
      refine v_callVv (c := 11) F dX11_takeDate_86 cv_X11_228 rfl (PB.ob hp hX (Nat.le_of_ble_eq_true rfl)) (Nat.le_of_ble_eq_true rfl) rfl (vm_X11_takeNumber hp hc42) rfl (rOk.of rfl) ?_
      refine v_if_ne F dX11_takeDate_89 rfl (fun hq44 => ?_) (fun hq44 => ?_)
      · rw [if_neg hq44] at h
        exact fX11_takeDate_94_ok F hX hp h K
      · rw [if_pos hq44] at h
        refine v_iconst F dX11_takeDate_92 ⟨by decide, by decide⟩ ?_
        cases h
        cases (show _ = (d', r) from K)
        exact v_zret F (Or.inl rfl) dX11_takeDate_93
  · rw [if_neg hq8] at h
    refine v_aload_n F dX11_takeDate_29 rfl rfl ?_
    obtain ⟨d45, x47, hc46, h⟩ := b2_some h
    refine v_callVv (c := 11) F dX11_takeDate_30 cv_X11_228 rfl (PB.ob hp hX (Nat.le_of_ble_eq_true rfl)) (Nat.le_of_ble_eq_true rfl) rfl (vm_X11_takeNumber hp hc46) rfl (rOk.of rfl) ?_
    refine v_if_ne F dX11_takeDate_33 rfl (fun hq48 => ?_) (fun hq48 => ?_)
    · rw [if_neg hq48] at h
      refine v_aload_n F dX11_takeDate_38 rfl rfl ?_
      refine v_aload_n F dX11_takeDate_39 rfl rfl ?_
      refine gf_X11_218 F dX11_takeDate_40 hp ?_
      refine v_i2l F dX11_takeDate_43 ?_
      refine v_ldc2 (n := 2000) F dX11_takeDate_44 q2607 rfl ⟨by decide, by decide⟩ ?_
      refine v_ldc2 (n := 2099) F dX11_takeDate_47 q2475 rfl ⟨by decide, by decide⟩ ?_
      refine v_callSv F dX11_takeDate_50 cs_X11_13 rfl (vm_X11_in) rfl (rOk.of rfl) ?_
      refine v_if_eq F dX11_takeDate_53 rfl (fun hq49 => ?_) (fun hq49 => ?_)
      · rw [if_pos hq49] at h
        refine v_ldc (n := (-2147483648)) F dX11_takeDate_66 q2483 rfl ⟨by decide, by decide⟩ ?_
        refine v_fgt (L' := [mU, mU, mU, mU, mU]) ⟨Or.inr rfl, Or.inl rfl, Or.inl rfl, Or.inl rfl, Or.inl rfl, trivial⟩ ?_
        exact fX11_takeDate_68_ok F hX hp h K
      · rw [if_neg hq49] at h
        refine v_aload_n F dX11_takeDate_56 rfl rfl ?_
        refine gf_X11_218 F dX11_takeDate_57 hp ?_
        obtain ⟨x51, hc52, h⟩ := b1_some h
        refine v_callSv F dX11_takeDate_60 cs_X11_260 rfl (vm_X11_easterOf hc52) rfl (rOk.of rfl) ?_
        refine v_goto F dX11_takeDate_63 rfl ?_
        refine v_fgt (L' := [mU, mU, mU, mU, mU]) ⟨Or.inr rfl, Or.inl rfl, Or.inl rfl, Or.inl rfl, Or.inl rfl, trivial⟩ ?_
        exact fX11_takeDate_68_ok F hX hp h K
    · rw [if_pos hq48] at h
      refine v_iconst F dX11_takeDate_36 ⟨by decide, by decide⟩ ?_
      cases h
      cases (show _ = (d', r) from K)
      exact v_zret F (Or.inl rfl) dX11_takeDate_37
def fX11_takeTime_36P (w : Wd) (l : Launch) (G : Cx) (Q : State → Prop) (m : Dt) (s : Dt × Int) : Prop := V w l WF G Q s.1 m 0 0 36 [mA 1545, mI (s.2), mU] []
theorem fX11_takeTime_109_ok {w : Wd} {l : Launch} {G : Cx} {d m dd : Dt} {v1 s1 : Int} {d' : Dt} {r : Int} {x : ((Dt × Int) ⊕ (Dt × Int))} (F : Fx w G cX11_takeTime RX11 3 (some .boolean) { frames := 8, cells := 0, slots := 0, locals := 174 }) (hX : WF dd m) (hp : PB m 1545 11) (h : fX11_takeTime_109 d v1 s1 = some x) (K : (Sum.elim (fX11_takeTime_36P w l G (QM w G WF (some (mI r)) d' m 0 0) m) (fun q => q = (d', r))) x) : V w l WF G (QM w G WF (some (mI r)) d' m 0 0) d m 0 0 109 [mA 1545, mI v1, mU] [mI s1, mA 1545] := by
  unfold fX11_takeTime_109 at h
  obtain ⟨d19, ed19, h⟩ := sd_some h
  refine pf_X11_255 F dX11_takeTime_109 hp ?_
  refine v_nD ed19 ?_
  refine v_iload_n F dX11_takeTime_112 rfl rfl ?_
  refine v_if_eq F dX11_takeTime_113 rfl (fun hq20 => ?_) (fun hq20 => ?_)
  · rw [if_pos hq20] at h
    refine v_goto F dX11_takeTime_141 rfl ?_
    cases h
    exact K
  · rw [if_neg hq20] at h
    refine v_aload_n F dX11_takeTime_116 rfl rfl ?_
    refine gf_X11_255 F dX11_takeTime_117 hp ?_
    refine v_i2l F dX11_takeTime_120 ?_
    refine v_lconst0 F dX11_takeTime_121 ?_
    refine v_ldc2 (n := 36524) F dX11_takeTime_122 q2428 rfl ⟨by decide, by decide⟩ ?_
    refine v_callSv F dX11_takeTime_125 cs_X11_13 rfl (vm_X11_in) rfl (rOk.of rfl) ?_
    refine v_if_ne F dX11_takeTime_128 rfl (fun hq21 => ?_) (fun hq21 => ?_)
    · rw [if_neg hq21] at h
      refine v_goto F dX11_takeTime_141 rfl ?_
      cases h
      exact K
    · rw [if_pos hq21] at h
      refine v_aload_n F dX11_takeTime_131 rfl rfl ?_
      refine v_aload_n F dX11_takeTime_132 rfl rfl ?_
      refine gf_X11_252 F dX11_takeTime_133 hp ?_
      obtain ⟨d22, hc23, h⟩ := bd_some h
      refine v_callV0 (c := 11) F dX11_takeTime_136 cv_X11_224 rfl (PB.ob hp hX (Nat.le_of_ble_eq_true rfl)) (Nat.le_of_ble_eq_true rfl) rfl (vm_X11_blame hp hc23) rfl (rOk.of rfl) ?_
      refine v_iconst F dX11_takeTime_139 ⟨by decide, by decide⟩ ?_
      refine v_istore_n F dX11_takeTime_140 rfl (Nat.le_of_ble_eq_true rfl) (L' := [mA 1545, mI 0, mU]) rfl ?_
      refine v_goto F dX11_takeTime_141 rfl ?_
      cases h
      exact K
theorem fX11_takeTime_68_ok {w : Wd} {l : Launch} {G : Cx} {d m dd : Dt} {v1 s0 : Int} {d' : Dt} {r : Int} {x : ((Dt × Int) ⊕ (Dt × Int))} (F : Fx w G cX11_takeTime RX11 3 (some .boolean) { frames := 8, cells := 0, slots := 0, locals := 174 }) (hX : WF dd m) (hp : PB m 1545 11) (h : fX11_takeTime_68 d v1 s0 = some x) (K : (Sum.elim (fX11_takeTime_36P w l G (QM w G WF (some (mI r)) d' m 0 0) m) (fun q => q = (d', r))) x) : V w l WF G (QM w G WF (some (mI r)) d' m 0 0) d m 0 0 68 [mA 1545, mI v1, mU] [mI s0] := by
  unfold fX11_takeTime_68 at h
  refine v_istore_n F dX11_takeTime_68 rfl (Nat.le_of_ble_eq_true rfl) (L' := [mA 1545, mI v1, mI s0]) rfl ?_
  refine v_aload_n F dX11_takeTime_69 rfl rfl ?_
  refine v_dup_A F dX11_takeTime_70 ?_
  refine gf_X11_188 F dX11_takeTime_71 hp ?_
  refine v_iconst F dX11_takeTime_74 ⟨by decide, by decide⟩ ?_
  refine v_iadd F dX11_takeTime_75 ?_
  obtain ⟨d13, ed13, h⟩ := sd_some h
  refine pf_X11_188 F dX11_takeTime_76 hp ?_
  refine v_nD ed13 ?_
  refine v_aload_n F dX11_takeTime_79 rfl rfl ?_
  obtain ⟨d14, x16, hc15, h⟩ := b2_some h
  refine v_callVv (c := 11) F dX11_takeTime_80 cv_X11_228 rfl (PB.ob hp hX (Nat.le_of_ble_eq_true rfl)) (Nat.le_of_ble_eq_true rfl) rfl (vm_X11_takeNumber hp hc15) rfl (rOk.of rfl) ?_
  refine v_if_ne F dX11_takeTime_83 rfl (fun hq17 => ?_) (fun hq17 => ?_)
  · rw [if_neg hq17] at h
    refine v_aload_n F dX11_takeTime_88 rfl rfl ?_
    refine v_iload_n F dX11_takeTime_89 rfl rfl ?_
    refine v_if_eq F dX11_takeTime_90 rfl (fun hq18 => ?_) (fun hq18 => ?_)
    · rw [if_pos hq18] at h
      refine v_ldc (n := (-2147483648)) F dX11_takeTime_107 q2483 rfl ⟨by decide, by decide⟩ ?_
      refine v_fgt (L' := [mA 1545, mI v1, mU]) ⟨Or.inl rfl, Or.inl rfl, Or.inr rfl, trivial⟩ ?_
      exact fX11_takeTime_109_ok F hX hp h K
    · rw [if_neg hq18] at h
      refine v_aload_n F dX11_takeTime_93 rfl rfl ?_
      refine gf_X11_255 F dX11_takeTime_94 hp ?_
      refine v_iload_n F dX11_takeTime_97 rfl rfl ?_
      refine v_aload_n F dX11_takeTime_98 rfl rfl ?_
      refine gf_X11_218 F dX11_takeTime_99 hp ?_
      refine v_imul F dX11_takeTime_102 ?_
      refine v_iadd F dX11_takeTime_103 ?_
      refine v_goto F dX11_takeTime_104 rfl ?_
      refine v_fgt (L' := [mA 1545, mI v1, mU]) ⟨Or.inl rfl, Or.inl rfl, Or.inr rfl, trivial⟩ ?_
      exact fX11_takeTime_109_ok F hX hp h K
  · rw [if_pos hq17] at h
    obtain ⟨z, hu, ez⟩ := up_some h
    clear h
    subst ez
    have h := hu
    clear hu
    refine v_iconst F dX11_takeTime_86 ⟨by decide, by decide⟩ ?_
    cases h
    cases (show _ = (d', r) from K)
    exact v_zret F (Or.inl rfl) dX11_takeTime_87
theorem fX11_takeTime_54_ok {w : Wd} {l : Launch} {G : Cx} {d m dd : Dt} {v1 : Int} {d' : Dt} {r : Int} {x : ((Dt × Int) ⊕ (Dt × Int))} (F : Fx w G cX11_takeTime RX11 3 (some .boolean) { frames := 8, cells := 0, slots := 0, locals := 174 }) (hX : WF dd m) (hp : PB m 1545 11) (h : fX11_takeTime_54 d v1 = some x) (K : (Sum.elim (fX11_takeTime_36P w l G (QM w G WF (some (mI r)) d' m 0 0) m) (fun q => q = (d', r))) x) : V w l WF G (QM w G WF (some (mI r)) d' m 0 0) d m 0 0 54 [mA 1545, mI v1, mU] [] := by
  unfold fX11_takeTime_54 at h
  refine v_aload_n F dX11_takeTime_54 rfl rfl ?_
  refine v_bipush F dX11_takeTime_55 rfl ⟨by decide, by decide⟩ ?_
  obtain ⟨x10, hc11, h⟩ := b1_some h
  refine v_callVv (c := 11) F dX11_takeTime_57 cv_X11_207 rfl (PB.ob hp hX (Nat.le_of_ble_eq_true rfl)) (Nat.le_of_ble_eq_true rfl) rfl (vm_X11_isSign hp hc11) rfl (rOk.of rfl) ?_
  refine v_if_eq F dX11_takeTime_60 rfl (fun hq12 => ?_) (fun hq12 => ?_)
  · rw [if_pos hq12] at h
    refine v_iconst F dX11_takeTime_67 ⟨by decide, by decide⟩ ?_
    exact fX11_takeTime_68_ok F hX hp h K
  · rw [if_neg hq12] at h
    refine v_iconst F dX11_takeTime_63 ⟨by decide, by decide⟩ ?_
    refine v_goto F dX11_takeTime_64 rfl ?_
    exact fX11_takeTime_68_ok F hX hp h K
theorem fX11_takeTime_36f_ok {w : Wd} {l : Launch} {G : Cx} {m dd : Dt} {d' : Dt} {r : Int} {s : Dt × Int} {x : ((Dt × Int) ⊕ (Dt × Int))} (F : Fx w G cX11_takeTime RX11 3 (some .boolean) { frames := 8, cells := 0, slots := 0, locals := 174 }) (hX : WF dd m) (hp : PB m 1545 11) (h : fX11_takeTime_36f s = some x) (K : (Sum.elim (fX11_takeTime_36P w l G (QM w G WF (some (mI r)) d' m 0 0) m) (fun q => q = (d', r))) x) : V w l WF G (QM w G WF (some (mI r)) d' m 0 0) s.1 m 0 0 36 [mA 1545, mI (s.2), mU] [] := by
  obtain ⟨d, v1⟩ := s
  unfold fX11_takeTime_36f at h
  dsimp only at h
  refine v_aload_n F dX11_takeTime_36 rfl rfl ?_
  refine v_bipush F dX11_takeTime_37 rfl ⟨by decide, by decide⟩ ?_
  obtain ⟨x7, hc8, h⟩ := b1_some h
  refine v_callVv (c := 11) F dX11_takeTime_39 cv_X11_207 rfl (PB.ob hp hX (Nat.le_of_ble_eq_true rfl)) (Nat.le_of_ble_eq_true rfl) rfl (vm_X11_isSign hp hc8) rfl (rOk.of rfl) ?_
  refine v_if_ne F dX11_takeTime_42 rfl (fun hq9 => ?_) (fun hq9 => ?_)
  · rw [if_neg hq9] at h
    exact fX11_takeTime_54_ok F hX hp h K
  · rw [if_pos hq9] at h
    refine v_aload_n F dX11_takeTime_45 rfl rfl ?_
    refine v_bipush F dX11_takeTime_46 rfl ⟨by decide, by decide⟩ ?_
    obtain ⟨x24, hc25, h⟩ := b1_some h
    refine v_callVv (c := 11) F dX11_takeTime_48 cv_X11_207 rfl (PB.ob hp hX (Nat.le_of_ble_eq_true rfl)) (Nat.le_of_ble_eq_true rfl) rfl (vm_X11_isSign hp hc25) rfl (rOk.of rfl) ?_
    refine v_if_eq F dX11_takeTime_51 rfl (fun hq26 => ?_) (fun hq26 => ?_)
    · rw [if_pos hq26] at h
      obtain ⟨z, hu, ez⟩ := up_some h
      clear h
      subst ez
      have h := hu
      clear hu
      refine v_iconst F dX11_takeTime_144 ⟨by decide, by decide⟩ ?_
      cases h
      cases (show _ = (d', r) from K)
      exact v_zret F (Or.inr rfl) dX11_takeTime_145
    · rw [if_neg hq26] at h
      exact fX11_takeTime_54_ok F hX hp h K
theorem fX11_takeTime_36_ok {w : Wd} {l : Launch} {G : Cx} {d m dd : Dt} {v1 : Int} {d' : Dt} {r : Int} {x : (Dt × Int)} (F : Fx w G cX11_takeTime RX11 3 (some .boolean) { frames := 8, cells := 0, slots := 0, locals := 174 }) (hX : WF dd m) (hp : PB m 1545 11) (h : fX11_takeTime_36 d v1 = some x) (K : (fun q => q = (d', r)) x) : V w l WF G (QM w G WF (some (mI r)) d' m 0 0) d m 0 0 36 [mA 1545, mI v1, mU] [] := by
  unfold fX11_takeTime_36 at h
  exact loop_ok (P := fX11_takeTime_36P w l G (QM w G WF (some (mI r)) d' m 0 0) m) (fun s x hx h1 h2 => fX11_takeTime_36f_ok F hX hp hx (by
    cases x with
    | inl s' => exact h1 s' rfl
    | inr z => cases h2 z rfl; exact K)) h
theorem fX11_takeTime_23_ok {w : Wd} {l : Launch} {G : Cx} {d m dd : Dt} {s0 : Int} {d' : Dt} {r : Int} {x : (Dt × Int)} (F : Fx w G cX11_takeTime RX11 3 (some .boolean) { frames := 8, cells := 0, slots := 0, locals := 174 }) (hX : WF dd m) (hp : PB m 1545 11) (h : fX11_takeTime_23 d s0 = some x) (K : (fun q => q = (d', r)) x) : V w l WF G (QM w G WF (some (mI r)) d' m 0 0) d m 0 0 23 [mA 1545, mU, mU] [mI s0] := by
  unfold fX11_takeTime_23 at h
  refine v_istore_n F dX11_takeTime_23 rfl (Nat.le_of_ble_eq_true rfl) (L' := [mA 1545, mI s0, mU]) rfl ?_
  refine v_iload_n F dX11_takeTime_24 rfl rfl ?_
  refine v_if_ne F dX11_takeTime_25 rfl (fun hq6 => ?_) (fun hq6 => ?_)
  · rw [if_neg hq6] at h
    exact fX11_takeTime_36_ok F hX hp h K
  · rw [if_pos hq6] at h
    refine v_aload_n F dX11_takeTime_28 rfl rfl ?_
    refine v_aload_n F dX11_takeTime_29 rfl rfl ?_
    refine gf_X11_252 F dX11_takeTime_30 hp ?_
    obtain ⟨d27, hc28, h⟩ := bd_some h
    refine v_callV0 (c := 11) F dX11_takeTime_33 cv_X11_224 rfl (PB.ob hp hX (Nat.le_of_ble_eq_true rfl)) (Nat.le_of_ble_eq_true rfl) rfl (vm_X11_blame hp hc28) rfl (rOk.of rfl) ?_
    exact fX11_takeTime_36_ok F hX hp h K
theorem vm_X11_takeTime {w : Wd} {l : Launch} {d m : Dt} {d' : Dt} {r : Int} (hp : PB m 1545 11) (h : fX11_takeTime d = some (d', r)) : VM w l WF yX11_takeTime cX11_takeTime 3 (some .boolean) 8 174 0 0 d m [mA 1545] (some (mI r)) d' m := by
  obtain ⟨x, h, K⟩ : ∃ x, fX11_takeTime d = some x ∧ x = (d', r) := ⟨_, h, rfl⟩
  refine VM.of (L := [mA 1545, mU, mU]) (by decide +kernel) rfl (Nat.le_of_ble_eq_true rfl) fun G F _ => v_fact fun _ hX _ _ => ?_
  unfold fX11_takeTime at h
  refine v_aload_n F dX11_takeTime_0 rfl rfl ?_
  obtain ⟨d1, x3, hc2, h⟩ := b2_some h
  refine v_callVv (c := 11) F dX11_takeTime_1 cv_X11_278 rfl (PB.ob hp hX (Nat.le_of_ble_eq_true rfl)) (Nat.le_of_ble_eq_true rfl) rfl (vm_X11_takeDate hp hc2) rfl (rOk.of rfl) ?_
  refine v_if_ne F dX11_takeTime_4 rfl (fun hq4 => ?_) (fun hq4 => ?_)
  · rw [if_neg hq4] at h
    refine v_aload_n F dX11_takeTime_9 rfl rfl ?_
    refine gf_X11_255 F dX11_takeTime_10 hp ?_
    refine v_ldc (n := (-2147483648)) F dX11_takeTime_13 q2483 rfl ⟨by decide, by decide⟩ ?_
    refine v_icmp_eq F dX11_takeTime_15 rfl (fun hq5 => ?_) (fun hq5 => ?_)
    · rw [if_pos hq5] at h
      refine v_iconst F dX11_takeTime_22 ⟨by decide, by decide⟩ ?_
      exact fX11_takeTime_23_ok F hX hp h K
    · rw [if_neg hq5] at h
      refine v_iconst F dX11_takeTime_18 ⟨by decide, by decide⟩ ?_
      refine v_goto F dX11_takeTime_19 rfl ?_
      exact fX11_takeTime_23_ok F hX hp h K
  · rw [if_pos hq4] at h
    refine v_iconst F dX11_takeTime_7 ⟨by decide, by decide⟩ ?_
    cases h
    cases (show _ = (d', r) from K)
    exact v_zret F (Or.inl rfl) dX11_takeTime_8
