set_option maxRecDepth 100000
set_option maxHeartbeats 4000000
theorem fX0_strike_43_ok {w : Wd} {l : Launch} {G : Cx} {d m dd : Dt} {a1 a2 a3 s0 s1 s2 : Int} {d' : Dt} {r : Int} {x : (Dt × Int)} (F : Fx w G cX0_strike RX0 4 (some .int) { frames := 4, cells := 0, slots := 0, locals := 115 }) (hX : WF dd m) (hp : PB m 1 0) (hs0 : AR m s0 103 9) (h : fX0_strike_43 d a1 a2 a3 s0 s1 s2 = some x) (K : (fun q => q = (d', r)) x) : V w l WF G (QM w G WF (some (mI r)) d' m 0 0) d m 0 0 43 [mA 1, mI a1, mI a2, mI a3] [mI s2, mI s1, mA s0] := by
  unfold fX0_strike_43 at h
  obtain ⟨hi7, h⟩ := ck_some h
  obtain ⟨d8, ed8, h⟩ := sd_some h
  refine v_zast F dX0_strike_43 hs0 hi7 ?_
  refine v_nD ed8 ?_
  refine v_aload_n F dX0_strike_44 rfl rfl ?_
  refine v_bipush F dX0_strike_45 rfl ⟨by decide, by decide⟩ ?_
  refine v_iload_n F dX0_strike_47 rfl rfl ?_
  refine v_iload_n F dX0_strike_48 rfl rfl ?_
  refine v_iload_n F dX0_strike_49 rfl rfl ?_
  refine v_iconst F dX0_strike_50 ⟨by decide, by decide⟩ ?_
  obtain ⟨d9, hc10, h⟩ := bd_some h
  refine v_callV0 (c := 0) F dX0_strike_51 cv_X0_173 rfl (PB.ob hp hX (Nat.le_of_ble_eq_true rfl)) (Nat.le_of_ble_eq_true rfl) rfl (vm_X0_write hp hc10) rfl (rOk.of rfl) ?_
  refine v_aload_n F dX0_strike_54 rfl rfl ?_
  refine gf_X0_62 F dX0_strike_55 hp (v := 57) rfl ?_
  refine v_iload_n F dX0_strike_58 rfl rfl ?_
  obtain ⟨hi11, h⟩ := ck_some h
  refine v_aaldF (c := 0) (k := 13) F dX0_strike_59 hp (Nat.le_of_ble_eq_true rfl) (Nat.le_of_ble_eq_true rfl) (by decide) (by decide) rfl (ar_X0_13 hX hp) (Nat.le_of_ble_eq_true rfl) rfl rfl rfl rfl hi11 (v := (629 + 8 * a1)) (by show 1 + 628 + 8 * a1 = _; omega) ?_
  obtain ⟨x12, hc13, h⟩ := b1_some h
  refine v_callVv (c := 9) F dX0_strike_60 cv_X0_320 rfl (PB.ob (ae_X0_13 (i := a1) hX hp hi11 (v := (629 + 8 * a1)) (by omega)) hX (Nat.le_of_ble_eq_true rfl)) (Nat.le_of_ble_eq_true rfl) rfl (vm_X9_struck (ae_X0_13 (i := a1) hX hp hi11 (v := (629 + 8 * a1)) (by omega)) hc13) rfl (rOk.of rfl) ?_
  cases h
  cases (show _ = (d', r) from K)
  exact v_iret F dX0_strike_63
theorem vm_X0_strike {w : Wd} {l : Launch} {d m : Dt} {a1 a2 a3 : Int} {d' : Dt} {r : Int} (hp : PB m 1 0) (h : fX0_strike d a1 a2 a3 = some (d', r)) : VM w l WF yX0_strike cX0_strike 4 (some .int) 4 115 0 0 d m [mA 1, mI a1, mI a2, mI a3] (some (mI r)) d' m := by
  obtain ⟨x, h, K⟩ : ∃ x, fX0_strike d a1 a2 a3 = some x ∧ x = (d', r) := ⟨_, h, rfl⟩
  refine VM.of (L := [mA 1, mI a1, mI a2, mI a3]) (by decide +kernel) rfl (Nat.le_of_ble_eq_true rfl) fun G F _ => v_fact fun _ hX _ _ => ?_
  unfold fX0_strike at h
  refine v_aload_n F dX0_strike_0 rfl rfl ?_
  refine v_iload_n F dX0_strike_1 rfl rfl ?_
  refine v_iload_n F dX0_strike_2 rfl rfl ?_
  obtain ⟨x1, hc2, h⟩ := b1_some h
  refine v_callVv (c := 0) F dX0_strike_3 cv_X0_406 rfl (PB.ob hp hX (Nat.le_of_ble_eq_true rfl)) (Nat.le_of_ble_eq_true rfl) rfl (vm_X0_isCandidate hp hc2) rfl (rOk.of rfl) ?_
  refine v_if_ne F dX0_strike_6 rfl (fun hq3 => ?_) (fun hq3 => ?_)
  · rw [if_neg hq3] at h
    refine v_iload_n F dX0_strike_11 rfl rfl ?_
    refine v_iconst F dX0_strike_12 ⟨by decide, by decide⟩ ?_
    refine v_iconst F dX0_strike_13 ⟨by decide, by decide⟩ ?_
    refine v_callSv F dX0_strike_14 cs_X0_163 rfl (vm_X0_within) rfl (rOk.of rfl) ?_
    refine v_if_ne F dX0_strike_17 rfl (fun hq4 => ?_) (fun hq4 => ?_)
    · rw [if_neg hq4] at h
      refine v_aload_n F dX0_strike_23 rfl rfl ?_
      refine gf_X0_62 F dX0_strike_24 hp (v := 57) rfl ?_
      refine v_iload_n F dX0_strike_27 rfl rfl ?_
      obtain ⟨hi5, h⟩ := ck_some h
      refine v_aaldF (c := 0) (k := 13) F dX0_strike_28 hp (Nat.le_of_ble_eq_true rfl) (Nat.le_of_ble_eq_true rfl) (by decide) (by decide) rfl (ar_X0_13 hX hp) (Nat.le_of_ble_eq_true rfl) rfl rfl rfl rfl hi5 (v := (629 + 8 * a1)) (by show 1 + 628 + 8 * a1 = _; omega) ?_
      refine gf_X0_418 F dX0_strike_29 (ae_X0_13 (i := a1) hX hp hi5 (v := (629 + 8 * a1)) (by omega)) (v := ((629 + 8 * a1) + 5)) rfl ?_
      refine v_iload_n F dX0_strike_32 rfl rfl ?_
      refine v_iload_n F dX0_strike_33 rfl rfl ?_
      refine v_iconst F dX0_strike_34 ⟨by decide, by decide⟩ ?_
      refine v_icmp_ne F dX0_strike_35 rfl (fun hq6 => ?_) (fun hq6 => ?_)
      · rw [if_neg hq6] at h
        refine v_iconst F dX0_strike_42 ⟨by decide, by decide⟩ ?_
        exact fX0_strike_43_ok F hX hp (ar_X9_5 hX (ae_X0_13 (i := a1) hX hp hi5 (v := (629 + 8 * a1)) (by omega))) h K
      · rw [if_pos hq6] at h
        refine v_iconst F dX0_strike_38 ⟨by decide, by decide⟩ ?_
        refine v_goto F dX0_strike_39 rfl ?_
        exact fX0_strike_43_ok F hX hp (ar_X9_5 hX (ae_X0_13 (i := a1) hX hp hi5 (v := (629 + 8 * a1)) (by omega))) h K
    · rw [if_pos hq4] at h
      refine v_bipush F dX0_strike_20 rfl ⟨by decide, by decide⟩ ?_
      cases h
      cases (show _ = (d', r) from K)
      exact v_iret F dX0_strike_22
  · rw [if_pos hq3] at h
    refine v_iconst F dX0_strike_9 ⟨by decide, by decide⟩ ?_
    cases h
    cases (show _ = (d', r) from K)
    exact v_iret F dX0_strike_10
theorem fX11_strike_44_ok {w : Wd} {l : Launch} {G : Cx} {d m dd : Dt} {a1 a2 a3 s1 s2 : Int} {d' : Dt} {r : Int} {x : (Dt × Int)} (F : Fx w G cX11_strike RX11 4 (some .int) { frames := 3, cells := 0, slots := 0, locals := 73 }) (hX : WF dd m) (hp : PB m 1545 11) (h : fX11_strike_44 d a1 a2 a3 s1 s2 = some x) (K : (fun q => q = (d', r)) x) : V w l WF G (QM w G WF (some (mI r)) d' m 0 0) d m 0 0 44 [mA 1545, mI a1, mI a2, mI a3] [mI s2, mI s1, mA 1591] := by
  unfold fX11_strike_44 at h
  obtain ⟨hi6, h⟩ := ck_some h
  obtain ⟨d7, ed7, h⟩ := sd_some h
  refine v_zast F dX11_strike_44 (ar_X11_67 hX hp) hi6 ?_
  refine v_nD ed7 ?_
  refine v_aload_n F dX11_strike_45 rfl rfl ?_
  refine v_bipush F dX11_strike_46 rfl ⟨by decide, by decide⟩ ?_
  refine v_iload_n F dX11_strike_48 rfl rfl ?_
  refine v_iload_n F dX11_strike_49 rfl rfl ?_
  refine v_iload_n F dX11_strike_50 rfl rfl ?_
  refine v_iconst F dX11_strike_51 ⟨by decide, by decide⟩ ?_
  obtain ⟨d8, hc9, h⟩ := bd_some h
  refine v_callV0 (c := 11) F dX11_strike_52 cv_X11_22 rfl (PB.ob hp hX (Nat.le_of_ble_eq_true rfl)) (Nat.le_of_ble_eq_true rfl) rfl (vm_X11_write hp hc9) rfl (rOk.of rfl) ?_
  refine v_aload_n F dX11_strike_55 rfl rfl ?_
  refine v_iload_n F dX11_strike_56 rfl rfl ?_
  obtain ⟨x10, hc11, h⟩ := b1_some h
  refine v_callVv (c := 11) F dX11_strike_57 cv_X11_491 rfl (PB.ob hp hX (Nat.le_of_ble_eq_true rfl)) (Nat.le_of_ble_eq_true rfl) rfl (vm_X11_struckOf hp hc11) rfl (rOk.of rfl) ?_
  cases h
  cases (show _ = (d', r) from K)
  exact v_iret F dX11_strike_60
theorem vm_X11_strike {w : Wd} {l : Launch} {d m : Dt} {a1 a2 a3 : Int} {d' : Dt} {r : Int} (hp : PB m 1545 11) (h : fX11_strike d a1 a2 a3 = some (d', r)) : VM w l WF yX11_strike cX11_strike 4 (some .int) 3 73 0 0 d m [mA 1545, mI a1, mI a2, mI a3] (some (mI r)) d' m := by
  obtain ⟨x, h, K⟩ : ∃ x, fX11_strike d a1 a2 a3 = some x ∧ x = (d', r) := ⟨_, h, rfl⟩
  refine VM.of (L := [mA 1545, mI a1, mI a2, mI a3]) (by decide +kernel) rfl (Nat.le_of_ble_eq_true rfl) fun G F _ => v_fact fun _ hX _ _ => ?_
  unfold fX11_strike at h
  refine v_aload_n F dX11_strike_0 rfl rfl ?_
  refine v_iload_n F dX11_strike_1 rfl rfl ?_
  refine v_iload_n F dX11_strike_2 rfl rfl ?_
  obtain ⟨x1, hc2, h⟩ := b1_some h
  refine v_callVv (c := 11) F dX11_strike_3 cv_X11_638 rfl (PB.ob hp hX (Nat.le_of_ble_eq_true rfl)) (Nat.le_of_ble_eq_true rfl) rfl (vm_X11_isCandidate hp hc2) rfl (rOk.of rfl) ?_
  refine v_if_ne F dX11_strike_6 rfl (fun hq3 => ?_) (fun hq3 => ?_)
  · rw [if_neg hq3] at h
    refine v_iload_n F dX11_strike_11 rfl rfl ?_
    refine v_i2l F dX11_strike_12 ?_
    refine v_lconst0 F dX11_strike_13 ?_
    refine v_lconst1 F dX11_strike_14 ?_
    refine v_callSv F dX11_strike_15 cs_X11_13 rfl (vm_X11_in) rfl (rOk.of rfl) ?_
    refine v_if_ne F dX11_strike_18 rfl (fun hq4 => ?_) (fun hq4 => ?_)
    · rw [if_neg hq4] at h
      refine v_aload_n F dX11_strike_24 rfl rfl ?_
      refine gf_X11_567 F dX11_strike_25 hp (v := 1591) rfl ?_
      refine v_bipush F dX11_strike_28 rfl ⟨by decide, by decide⟩ ?_
      refine v_iload_n F dX11_strike_30 rfl rfl ?_
      refine v_imul F dX11_strike_31 ?_
      refine v_iload_n F dX11_strike_32 rfl rfl ?_
      refine v_iadd F dX11_strike_33 ?_
      refine v_iload_n F dX11_strike_34 rfl rfl ?_
      refine v_iconst F dX11_strike_35 ⟨by decide, by decide⟩ ?_
      refine v_icmp_ne F dX11_strike_36 rfl (fun hq5 => ?_) (fun hq5 => ?_)
      · rw [if_neg hq5] at h
        refine v_iconst F dX11_strike_43 ⟨by decide, by decide⟩ ?_
        exact fX11_strike_44_ok F hX hp h K
      · rw [if_pos hq5] at h
        refine v_iconst F dX11_strike_39 ⟨by decide, by decide⟩ ?_
        refine v_goto F dX11_strike_40 rfl ?_
        exact fX11_strike_44_ok F hX hp h K
    · rw [if_pos hq4] at h
      refine v_bipush F dX11_strike_21 rfl ⟨by decide, by decide⟩ ?_
      cases h
      cases (show _ = (d', r) from K)
      exact v_iret F dX11_strike_23
  · rw [if_pos hq3] at h
    refine v_iconst F dX11_strike_9 ⟨by decide, by decide⟩ ?_
    cases h
    cases (show _ = (d', r) from K)
    exact v_iret F dX11_strike_10
def fX0_voidBox_56P (w : Wd) (l : Launch) (G : Cx) (Q : State → Prop) (m : Dt) (d : Dt) (a1 a2 : Int) (s : Int × Int) : Prop := V w l WF G Q d m 0 0 56 [mA 1, mU, mU, mI (s.1), mI (s.2)] []
theorem fX0_voidBox_91_ok {w : Wd} {l : Launch} {G : Cx} {d m dd : Dt} {a1 a2 v4 s0 s1 : Int} {d' : Dt} {r : Int} {x : ((Int × Int) ⊕ (Dt × Int))} (F : Fx w G cX0_voidBox RX0 5 (some .int) { frames := 4, cells := 0, slots := 0, locals := 115 }) (hX : WF dd m) (hp : PB m 1 0) (h : fX0_voidBox_91 d a1 a2 v4 s0 s1 = some x) (K : (Sum.elim (fX0_voidBox_56P w l G (QM w G WF (some (mI r)) d' m 0 0) m d a1 a2) (fun q => q = (d', r))) x) : V w l WF G (QM w G WF (some (mI r)) d' m 0 0) d m 0 0 91 [mA 1, mU, mU, mU, mI v4] [mI s1, mI s0] := by
  unfold fX0_voidBox_91 at h
  refine v_iadd F dX0_voidBox_91 ?_
  obtain ⟨x15, ex15, h⟩ := lv_some h
  refine v_nI ex15 ?_
  refine v_istore_n F dX0_voidBox_92 rfl (Nat.le_of_ble_eq_true rfl) (L' := [mA 1, mU, mU, mI x15, mI v4]) rfl ?_
  obtain ⟨x16, ex16, h⟩ := lv_some h
  refine v_iincN F dX0_voidBox_93 (Nat.le_of_ble_eq_true rfl) rfl ex16 (L' := [mA 1, mU, mU, mI x15, mI x16]) rfl ?_
  refine v_goto F dX0_voidBox_96 rfl ?_
  cases h
  exact K
theorem fX0_voidBox_56f_ok {w : Wd} {l : Launch} {G : Cx} {d m dd : Dt} {a1 a2 : Int} {d' : Dt} {r : Int} {s : Int × Int} {x : ((Int × Int) ⊕ (Dt × Int))} (F : Fx w G cX0_voidBox RX0 5 (some .int) { frames := 4, cells := 0, slots := 0, locals := 115 }) (hX : WF dd m) (hp : PB m 1 0) (h : fX0_voidBox_56f d a1 a2 s = some x) (K : (Sum.elim (fX0_voidBox_56P w l G (QM w G WF (some (mI r)) d' m 0 0) m d a1 a2) (fun q => q = (d', r))) x) : V w l WF G (QM w G WF (some (mI r)) d' m 0 0) d m 0 0 56 [mA 1, mU, mU, mI (s.1), mI (s.2)] [] := by
  obtain ⟨v3, v4⟩ := s
  unfold fX0_voidBox_56f at h
  dsimp only at h
  refine v_iload F dX0_voidBox_56 rfl ?_
  refine v_bipush F dX0_voidBox_58 rfl ⟨by decide, by decide⟩ ?_
  refine v_icmp_gt F dX0_voidBox_60 rfl (fun hq11 => ?_) (fun hq11 => ?_)
  · rw [if_pos hq11] at h
    obtain ⟨z, hu, ez⟩ := up_some h
    clear h
    subst ez
    have h := hu
    clear hu
    refine v_iload_n F dX0_voidBox_99 rfl rfl ?_
    cases h
    cases (show _ = (d', r) from K)
    exact v_iret F dX0_voidBox_100
  · rw [if_neg hq11] at h
    refine v_iload_n F dX0_voidBox_63 rfl rfl ?_
    refine v_aload_n F dX0_voidBox_64 rfl rfl ?_
    refine v_iload F dX0_voidBox_65 rfl ?_
    obtain ⟨x12, hc13, h⟩ := b1_some h
    refine v_callVv (c := 0) F dX0_voidBox_67 cv_X0_523 rfl (PB.ob hp hX (Nat.le_of_ble_eq_true rfl)) (Nat.le_of_ble_eq_true rfl) rfl (vm_X0_isBox hp hc13) rfl (rOk.of rfl) ?_
    refine v_if_eq F dX0_voidBox_70 rfl (fun hq14 => ?_) (fun hq14 => ?_)
    · rw [if_pos hq14] at h
      refine v_iconst F dX0_voidBox_90 ⟨by decide, by decide⟩ ?_
      refine v_fgt (L' := [mA 1, mU, mU, mU, mI v4]) ⟨Or.inl rfl, Or.inl rfl, Or.inl rfl, Or.inr rfl, Or.inl rfl, trivial⟩ ?_
      exact fX0_voidBox_91_ok F hX hp h K
    · rw [if_neg hq14] at h
      refine v_aload_n F dX0_voidBox_73 rfl rfl ?_
      refine gf_X0_120 F dX0_voidBox_74 hp (v := 78) rfl ?_
      refine v_iload F dX0_voidBox_77 rfl ?_
      obtain ⟨hi17, h⟩ := ck_some h
      refine v_aaldF (c := 0) (k := 34) F dX0_voidBox_79 hp (Nat.le_of_ble_eq_true rfl) (Nat.le_of_ble_eq_true rfl) (by decide) (by decide) rfl (ar_X0_34 hX hp) (Nat.le_of_ble_eq_true rfl) rfl rfl rfl rfl hi17 (v := (677 + 124 * v4)) (by show 1 + 676 + 124 * v4 = _; omega) ?_
      refine gf_X0_535 F dX0_voidBox_80 (ae_X0_34 (i := v4) hX hp hi17 (v := (677 + 124 * v4)) (by omega)) ?_
      refine v_if_eq F dX0_voidBox_83 rfl (fun hq18 => ?_) (fun hq18 => ?_)
      · rw [if_pos hq18] at h
        refine v_iconst F dX0_voidBox_90 ⟨by decide, by decide⟩ ?_
        refine v_fgt (L' := [mA 1, mU, mU, mU, mI v4]) ⟨Or.inl rfl, Or.inl rfl, Or.inl rfl, Or.inr rfl, Or.inl rfl, trivial⟩ ?_
        exact fX0_voidBox_91_ok F hX hp h K
      · rw [if_neg hq18] at h
        refine v_iconst F dX0_voidBox_86 ⟨by decide, by decide⟩ ?_
        refine v_goto F dX0_voidBox_87 rfl ?_
        refine v_fgt (L' := [mA 1, mU, mU, mU, mI v4]) ⟨Or.inl rfl, Or.inl rfl, Or.inl rfl, Or.inr rfl, Or.inl rfl, trivial⟩ ?_
        exact fX0_voidBox_91_ok F hX hp h K
theorem fX0_voidBox_56_ok {w : Wd} {l : Launch} {G : Cx} {d m dd : Dt} {a1 a2 v3 v4 : Int} {d' : Dt} {r : Int} {x : (Dt × Int)} (F : Fx w G cX0_voidBox RX0 5 (some .int) { frames := 4, cells := 0, slots := 0, locals := 115 }) (hX : WF dd m) (hp : PB m 1 0) (h : fX0_voidBox_56 d a1 a2 v3 v4 = some x) (K : (fun q => q = (d', r)) x) : V w l WF G (QM w G WF (some (mI r)) d' m 0 0) d m 0 0 56 [mA 1, mU, mU, mI v3, mI v4] [] := by
  unfold fX0_voidBox_56 at h
  exact loop_ok (P := fX0_voidBox_56P w l G (QM w G WF (some (mI r)) d' m 0 0) m d a1 a2) (fun s x hx h1 h2 => fX0_voidBox_56f_ok F hX hp hx (by
    cases x with
    | inl s' => exact h1 s' rfl
    | inr z => cases h2 z rfl; exact K)) h
theorem fX0_voidBox_38_ok {w : Wd} {l : Launch} {G : Cx} {d m dd : Dt} {a1 a2 s0 s1 : Int} {d' : Dt} {r : Int} {x : (Dt × Int)} (F : Fx w G cX0_voidBox RX0 5 (some .int) { frames := 4, cells := 0, slots := 0, locals := 115 }) (hX : WF dd m) (hp : PB m 1 0) (hs0 : PB m s0 10) (h : fX0_voidBox_38 d a1 a2 s0 s1 = some x) (K : (fun q => q = (d', r)) x) : V w l WF G (QM w G WF (some (mI r)) d' m 0 0) d m 0 0 38 [mA 1, mI a1, mI a2, mU, mU] [mI s1, mA s0] := by
  unfold fX0_voidBox_38 at h
  obtain ⟨hb7, h⟩ := ck_some h
  obtain ⟨d8, ed8, h⟩ := sd_some h
  refine pf_X0_535 F dX0_voidBox_38 hs0 hb7 ?_
  refine v_nD ed8 ?_
  refine v_aload_n F dX0_voidBox_41 rfl rfl ?_
  refine v_bipush F dX0_voidBox_42 rfl ⟨by decide, by decide⟩ ?_
  refine v_iload_n F dX0_voidBox_44 rfl rfl ?_
  refine v_iload_n F dX0_voidBox_45 rfl rfl ?_
  refine v_iconst F dX0_voidBox_46 ⟨by decide, by decide⟩ ?_
  refine v_iconst F dX0_voidBox_47 ⟨by decide, by decide⟩ ?_
  obtain ⟨d9, hc10, h⟩ := bd_some h
  refine v_callV0 (c := 0) F dX0_voidBox_48 cv_X0_173 rfl (PB.ob hp hX (Nat.le_of_ble_eq_true rfl)) (Nat.le_of_ble_eq_true rfl) rfl (vm_X0_write hp hc10) rfl (rOk.of rfl) ?_
  refine v_iconst F dX0_voidBox_51 ⟨by decide, by decide⟩ ?_
  refine v_istore_n F dX0_voidBox_52 rfl (Nat.le_of_ble_eq_true rfl) (L' := [mA 1, mI a1, mI a2, mI 0, mU]) rfl ?_
  refine v_iconst F dX0_voidBox_53 ⟨by decide, by decide⟩ ?_
  refine v_istore F dX0_voidBox_54 (Nat.le_of_ble_eq_true rfl) (L' := [mA 1, mI a1, mI a2, mI 0, mI 0]) rfl ?_
  refine v_fgt (L' := [mA 1, mU, mU, mI 0, mI 0]) ⟨Or.inl rfl, Or.inr rfl, Or.inr rfl, Or.inl rfl, Or.inl rfl, trivial⟩ ?_
  exact fX0_voidBox_56_ok F hX hp h K
theorem vm_X0_voidBox {w : Wd} {l : Launch} {d m : Dt} {a1 a2 : Int} {d' : Dt} {r : Int} (hp : PB m 1 0) (h : fX0_voidBox d a1 a2 = some (d', r)) : VM w l WF yX0_voidBox cX0_voidBox 5 (some .int) 4 115 0 0 d m [mA 1, mI a1, mI a2] (some (mI r)) d' m := by
  obtain ⟨x, h, K⟩ : ∃ x, fX0_voidBox d a1 a2 = some x ∧ x = (d', r) := ⟨_, h, rfl⟩
  refine VM.of (L := [mA 1, mI a1, mI a2, mU, mU]) (by decide +kernel) rfl (Nat.le_of_ble_eq_true rfl) fun G F _ => v_fact fun _ hX _ _ => ?_
  unfold fX0_voidBox at h
  refine v_aload_n F dX0_voidBox_0 rfl rfl ?_
  refine v_iload_n F dX0_voidBox_1 rfl rfl ?_
  obtain ⟨x1, hc2, h⟩ := b1_some h
  refine v_callVv (c := 0) F dX0_voidBox_2 cv_X0_523 rfl (PB.ob hp hX (Nat.le_of_ble_eq_true rfl)) (Nat.le_of_ble_eq_true rfl) rfl (vm_X0_isBox hp hc2) rfl (rOk.of rfl) ?_
  refine v_if_ne F dX0_voidBox_5 rfl (fun hq3 => ?_) (fun hq3 => ?_)
  · rw [if_neg hq3] at h
    refine v_iload_n F dX0_voidBox_10 rfl rfl ?_
    refine v_iconst F dX0_voidBox_11 ⟨by decide, by decide⟩ ?_
    refine v_iconst F dX0_voidBox_12 ⟨by decide, by decide⟩ ?_
    refine v_callSv F dX0_voidBox_13 cs_X0_163 rfl (vm_X0_within) rfl (rOk.of rfl) ?_
    refine v_if_ne F dX0_voidBox_16 rfl (fun hq4 => ?_) (fun hq4 => ?_)
    · rw [if_neg hq4] at h
      refine v_aload_n F dX0_voidBox_22 rfl rfl ?_
      refine gf_X0_120 F dX0_voidBox_23 hp (v := 78) rfl ?_
      refine v_iload_n F dX0_voidBox_26 rfl rfl ?_
      obtain ⟨hi5, h⟩ := ck_some h
      refine v_aaldF (c := 0) (k := 34) F dX0_voidBox_27 hp (Nat.le_of_ble_eq_true rfl) (Nat.le_of_ble_eq_true rfl) (by decide) (by decide) rfl (ar_X0_34 hX hp) (Nat.le_of_ble_eq_true rfl) rfl rfl rfl rfl hi5 (v := (677 + 124 * a1)) (by show 1 + 676 + 124 * a1 = _; omega) ?_
      refine v_iload_n F dX0_voidBox_28 rfl rfl ?_
      refine v_iconst F dX0_voidBox_29 ⟨by decide, by decide⟩ ?_
      refine v_icmp_ne F dX0_voidBox_30 rfl (fun hq6 => ?_) (fun hq6 => ?_)
      · rw [if_neg hq6] at h
        refine v_iconst F dX0_voidBox_37 ⟨by decide, by decide⟩ ?_
        exact fX0_voidBox_38_ok F hX hp (ae_X0_34 (i := a1) hX hp hi5 (v := (677 + 124 * a1)) (by omega)) h K
      · rw [if_pos hq6] at h
        refine v_iconst F dX0_voidBox_33 ⟨by decide, by decide⟩ ?_
        refine v_goto F dX0_voidBox_34 rfl ?_
        exact fX0_voidBox_38_ok F hX hp (ae_X0_34 (i := a1) hX hp hi5 (v := (677 + 124 * a1)) (by omega)) h K
    · rw [if_pos hq4] at h
      refine v_bipush F dX0_voidBox_19 rfl ⟨by decide, by decide⟩ ?_
      cases h
      cases (show _ = (d', r) from K)
      exact v_iret F dX0_voidBox_21
  · rw [if_pos hq3] at h
    refine v_iconst F dX0_voidBox_8 ⟨by decide, by decide⟩ ?_
    cases h
    cases (show _ = (d', r) from K)
    exact v_iret F dX0_voidBox_9
def fX11_voidBox_54P (w : Wd) (l : Launch) (G : Cx) (Q : State → Prop) (m : Dt) (d : Dt) (a1 a2 : Int) (s : Int × Int) : Prop := V w l WF G Q d m 0 0 54 [mA 1545, mU, mU, mI (s.1), mI (s.2)] []
theorem fX11_voidBox_77_ok {w : Wd} {l : Launch} {G : Cx} {d m dd : Dt} {a1 a2 v4 s0 s1 : Int} {d' : Dt} {r : Int} {x : ((Int × Int) ⊕ (Dt × Int))} (F : Fx w G cX11_voidBox RX11 5 (some .int) { frames := 3, cells := 0, slots := 0, locals := 73 }) (hX : WF dd m) (hp : PB m 1545 11) (h : fX11_voidBox_77 d a1 a2 v4 s0 s1 = some x) (K : (Sum.elim (fX11_voidBox_54P w l G (QM w G WF (some (mI r)) d' m 0 0) m d a1 a2) (fun q => q = (d', r))) x) : V w l WF G (QM w G WF (some (mI r)) d' m 0 0) d m 0 0 77 [mA 1545, mU, mU, mU, mI v4] [mI s1, mI s0] := by
  unfold fX11_voidBox_77 at h
  refine v_iadd F dX11_voidBox_77 ?_
  obtain ⟨x13, ex13, h⟩ := lv_some h
  refine v_nI ex13 ?_
  refine v_istore_n F dX11_voidBox_78 rfl (Nat.le_of_ble_eq_true rfl) (L' := [mA 1545, mU, mU, mI x13, mI v4]) rfl ?_
  obtain ⟨x14, ex14, h⟩ := lv_some h
  refine v_iincN F dX11_voidBox_79 (Nat.le_of_ble_eq_true rfl) rfl ex14 (L' := [mA 1545, mU, mU, mI x13, mI x14]) rfl ?_
  refine v_goto F dX11_voidBox_82 rfl ?_
  cases h
  exact K
theorem fX11_voidBox_54f_ok {w : Wd} {l : Launch} {G : Cx} {d m dd : Dt} {a1 a2 : Int} {d' : Dt} {r : Int} {s : Int × Int} {x : ((Int × Int) ⊕ (Dt × Int))} (F : Fx w G cX11_voidBox RX11 5 (some .int) { frames := 3, cells := 0, slots := 0, locals := 73 }) (hX : WF dd m) (hp : PB m 1545 11) (h : fX11_voidBox_54f d a1 a2 s = some x) (K : (Sum.elim (fX11_voidBox_54P w l G (QM w G WF (some (mI r)) d' m 0 0) m d a1 a2) (fun q => q = (d', r))) x) : V w l WF G (QM w G WF (some (mI r)) d' m 0 0) d m 0 0 54 [mA 1545, mU, mU, mI (s.1), mI (s.2)] [] := by
  obtain ⟨v3, v4⟩ := s
  unfold fX11_voidBox_54f at h
  dsimp only at h
  refine v_iload F dX11_voidBox_54 rfl ?_
  refine v_bipush F dX11_voidBox_56 rfl ⟨by decide, by decide⟩ ?_
  refine v_icmp_ge F dX11_voidBox_58 rfl (fun hq10 => ?_) (fun hq10 => ?_)
  · rw [if_pos hq10] at h
    obtain ⟨z, hu, ez⟩ := up_some h
    clear h
    subst ez
    have h := hu
    clear hu
    refine v_iload_n F dX11_voidBox_85 rfl rfl ?_
    cases h
    cases (show _ = (d', r) from K)
    exact v_iret F dX11_voidBox_86
  · rw [if_neg hq10] at h
    refine v_iload_n F dX11_voidBox_61 rfl rfl ?_
    refine v_aload_n F dX11_voidBox_62 rfl rfl ?_
    refine gf_X11_555 F dX11_voidBox_63 hp (v := 1616) rfl ?_
    refine v_iload F dX11_voidBox_66 rfl ?_
    obtain ⟨hi11, h⟩ := ck_some h
    refine v_zald F dX11_voidBox_68 (ar_X11_96 hX hp) hi11 ?_
    refine v_if_eq F dX11_voidBox_69 rfl (fun hq12 => ?_) (fun hq12 => ?_)
    · rw [if_pos hq12] at h
      refine v_iconst F dX11_voidBox_76 ⟨by decide, by decide⟩ ?_
      refine v_fgt (L' := [mA 1545, mU, mU, mU, mI v4]) ⟨Or.inl rfl, Or.inl rfl, Or.inl rfl, Or.inr rfl, Or.inl rfl, trivial⟩ ?_
      exact fX11_voidBox_77_ok F hX hp h K
    · rw [if_neg hq12] at h
      refine v_iconst F dX11_voidBox_72 ⟨by decide, by decide⟩ ?_
      refine v_goto F dX11_voidBox_73 rfl ?_
      refine v_fgt (L' := [mA 1545, mU, mU, mU, mI v4]) ⟨Or.inl rfl, Or.inl rfl, Or.inl rfl, Or.inr rfl, Or.inl rfl, trivial⟩ ?_
      exact fX11_voidBox_77_ok F hX hp h K
theorem fX11_voidBox_54_ok {w : Wd} {l : Launch} {G : Cx} {d m dd : Dt} {a1 a2 v3 v4 : Int} {d' : Dt} {r : Int} {x : (Dt × Int)} (F : Fx w G cX11_voidBox RX11 5 (some .int) { frames := 3, cells := 0, slots := 0, locals := 73 }) (hX : WF dd m) (hp : PB m 1545 11) (h : fX11_voidBox_54 d a1 a2 v3 v4 = some x) (K : (fun q => q = (d', r)) x) : V w l WF G (QM w G WF (some (mI r)) d' m 0 0) d m 0 0 54 [mA 1545, mU, mU, mI v3, mI v4] [] := by
  unfold fX11_voidBox_54 at h
  exact loop_ok (P := fX11_voidBox_54P w l G (QM w G WF (some (mI r)) d' m 0 0) m d a1 a2) (fun s x hx h1 h2 => fX11_voidBox_54f_ok F hX hp hx (by
    cases x with
    | inl s' => exact h1 s' rfl
    | inr z => cases h2 z rfl; exact K)) h
theorem fX11_voidBox_38_ok {w : Wd} {l : Launch} {G : Cx} {d m dd : Dt} {a1 a2 s1 s2 : Int} {d' : Dt} {r : Int} {x : (Dt × Int)} (F : Fx w G cX11_voidBox RX11 5 (some .int) { frames := 3, cells := 0, slots := 0, locals := 73 }) (hX : WF dd m) (hp : PB m 1545 11) (h : fX11_voidBox_38 d a1 a2 s1 s2 = some x) (K : (fun q => q = (d', r)) x) : V w l WF G (QM w G WF (some (mI r)) d' m 0 0) d m 0 0 38 [mA 1545, mI a1, mI a2, mU, mU] [mI s2, mI s1, mA 1616] := by
  unfold fX11_voidBox_38 at h
  obtain ⟨hi6, h⟩ := ck_some h
  obtain ⟨d7, ed7, h⟩ := sd_some h
  refine v_zast F dX11_voidBox_38 (ar_X11_96 hX hp) hi6 ?_
  refine v_nD ed7 ?_
  refine v_aload_n F dX11_voidBox_39 rfl rfl ?_
  refine v_bipush F dX11_voidBox_40 rfl ⟨by decide, by decide⟩ ?_
  refine v_iload_n F dX11_voidBox_42 rfl rfl ?_
  refine v_iload_n F dX11_voidBox_43 rfl rfl ?_
  refine v_iconst F dX11_voidBox_44 ⟨by decide, by decide⟩ ?_
  refine v_iconst F dX11_voidBox_45 ⟨by decide, by decide⟩ ?_
  obtain ⟨d8, hc9, h⟩ := bd_some h
  refine v_callV0 (c := 11) F dX11_voidBox_46 cv_X11_22 rfl (PB.ob hp hX (Nat.le_of_ble_eq_true rfl)) (Nat.le_of_ble_eq_true rfl) rfl (vm_X11_write hp hc9) rfl (rOk.of rfl) ?_
  refine v_iconst F dX11_voidBox_49 ⟨by decide, by decide⟩ ?_
  refine v_istore_n F dX11_voidBox_50 rfl (Nat.le_of_ble_eq_true rfl) (L' := [mA 1545, mI a1, mI a2, mI 0, mU]) rfl ?_
  refine v_iconst F dX11_voidBox_51 ⟨by decide, by decide⟩ ?_
  refine v_istore F dX11_voidBox_52 (Nat.le_of_ble_eq_true rfl) (L' := [mA 1545, mI a1, mI a2, mI 0, mI 0]) rfl ?_
  refine v_fgt (L' := [mA 1545, mU, mU, mI 0, mI 0]) ⟨Or.inl rfl, Or.inr rfl, Or.inr rfl, Or.inl rfl, Or.inl rfl, trivial⟩ ?_
  exact fX11_voidBox_54_ok F hX hp h K
theorem vm_X11_voidBox {w : Wd} {l : Launch} {d m : Dt} {a1 a2 : Int} {d' : Dt} {r : Int} (hp : PB m 1545 11) (h : fX11_voidBox d a1 a2 = some (d', r)) : VM w l WF yX11_voidBox cX11_voidBox 5 (some .int) 3 73 0 0 d m [mA 1545, mI a1, mI a2] (some (mI r)) d' m := by
  obtain ⟨x, h, K⟩ : ∃ x, fX11_voidBox d a1 a2 = some x ∧ x = (d', r) := ⟨_, h, rfl⟩
  refine VM.of (L := [mA 1545, mI a1, mI a2, mU, mU]) (by decide +kernel) rfl (Nat.le_of_ble_eq_true rfl) fun G F _ => v_fact fun _ hX _ _ => ?_
  unfold fX11_voidBox at h
  refine v_aload_n F dX11_voidBox_0 rfl rfl ?_
  refine v_iload_n F dX11_voidBox_1 rfl rfl ?_
  obtain ⟨x1, hc2, h⟩ := b1_some h
  refine v_callVv (c := 11) F dX11_voidBox_2 cv_X11_737 rfl (PB.ob hp hX (Nat.le_of_ble_eq_true rfl)) (Nat.le_of_ble_eq_true rfl) rfl (vm_X11_isBox hp hc2) rfl (rOk.of rfl) ?_
  refine v_if_ne F dX11_voidBox_5 rfl (fun hq3 => ?_) (fun hq3 => ?_)
  · rw [if_neg hq3] at h
    refine v_iload_n F dX11_voidBox_10 rfl rfl ?_
    refine v_i2l F dX11_voidBox_11 ?_
    refine v_lconst0 F dX11_voidBox_12 ?_
    refine v_lconst1 F dX11_voidBox_13 ?_
    refine v_callSv F dX11_voidBox_14 cs_X11_13 rfl (vm_X11_in) rfl (rOk.of rfl) ?_
    refine v_if_ne F dX11_voidBox_17 rfl (fun hq4 => ?_) (fun hq4 => ?_)
    · rw [if_neg hq4] at h
      refine v_aload_n F dX11_voidBox_23 rfl rfl ?_
      refine gf_X11_555 F dX11_voidBox_24 hp (v := 1616) rfl ?_
      refine v_iload_n F dX11_voidBox_27 rfl rfl ?_
      refine v_iload_n F dX11_voidBox_28 rfl rfl ?_
      refine v_iconst F dX11_voidBox_29 ⟨by decide, by decide⟩ ?_
      refine v_icmp_ne F dX11_voidBox_30 rfl (fun hq5 => ?_) (fun hq5 => ?_)
      · rw [if_neg hq5] at h
        refine v_iconst F dX11_voidBox_37 ⟨by decide, by decide⟩ ?_
        exact fX11_voidBox_38_ok F hX hp h K
      · rw [if_pos hq5] at h
        refine v_iconst F dX11_voidBox_33 ⟨by decide, by decide⟩ ?_
        refine v_goto F dX11_voidBox_34 rfl ?_
        exact fX11_voidBox_38_ok F hX hp h K
    · rw [if_pos hq4] at h
      refine v_bipush F dX11_voidBox_20 rfl ⟨by decide, by decide⟩ ?_
      cases h
      cases (show _ = (d', r) from K)
      exact v_iret F dX11_voidBox_22
  · rw [if_pos hq3] at h
    refine v_iconst F dX11_voidBox_8 ⟨by decide, by decide⟩ ?_
    cases h
    cases (show _ = (d', r) from K)
    exact v_iret F dX11_voidBox_9
def fX0_isReady_7P (w : Wd) (l : Launch) (G : Cx) (Q : State → Prop) (m : Dt) (d : Dt) (s : Int × Int) : Prop := V w l WF G Q d m 0 0 7 [mA 1, mI (s.1), mI (s.2)] []
theorem fX0_isReady_39_ok {w : Wd} {l : Launch} {G : Cx} {d m dd : Dt} {v2 s0 s1 : Int} {r : Int} {x : ((Int × Int) ⊕ Int)} (F : Fx w G cX0_isReady RX0 3 (some .boolean) { frames := 3, cells := 0, slots := 0, locals := 64 }) (hX : WF dd m) (hp : PB m 1 0) (h : fX0_isReady_39 d v2 s0 s1 = some x) (K : (Sum.elim (fX0_isReady_7P w l G (QM w G WF (some (mI r)) d m 0 0) m d) (fun q => q = r)) x) : V w l WF G (QM w G WF (some (mI r)) d m 0 0) d m 0 0 39 [mA 1, mU, mI v2] [mI s1, mI s0] := by
  unfold fX0_isReady_39 at h
  refine v_iand F dX0_isReady_39 ?_
  obtain ⟨x6, ex6, h⟩ := lv_some h
  refine v_nI ex6 ?_
  refine v_istore_n F dX0_isReady_40 rfl (Nat.le_of_ble_eq_true rfl) (L' := [mA 1, mI x6, mI v2]) rfl ?_
  obtain ⟨x7, ex7, h⟩ := lv_some h
  refine v_iincN F dX0_isReady_41 (Nat.le_of_ble_eq_true rfl) rfl ex7 (L' := [mA 1, mI x6, mI x7]) rfl ?_
  refine v_goto F dX0_isReady_44 rfl ?_
  cases h
  exact K
theorem fX0_isReady_7f_ok {w : Wd} {l : Launch} {G : Cx} {d m dd : Dt} {r : Int} {s : Int × Int} {x : ((Int × Int) ⊕ Int)} (F : Fx w G cX0_isReady RX0 3 (some .boolean) { frames := 3, cells := 0, slots := 0, locals := 64 }) (hX : WF dd m) (hp : PB m 1 0) (h : fX0_isReady_7f d s = some x) (K : (Sum.elim (fX0_isReady_7P w l G (QM w G WF (some (mI r)) d m 0 0) m d) (fun q => q = r)) x) : V w l WF G (QM w G WF (some (mI r)) d m 0 0) d m 0 0 7 [mA 1, mI (s.1), mI (s.2)] [] := by
  obtain ⟨v1, v2⟩ := s
  unfold fX0_isReady_7f at h
  dsimp only at h
  refine v_iload_n F dX0_isReady_7 rfl rfl ?_
  refine v_bipush F dX0_isReady_8 rfl ⟨by decide, by decide⟩ ?_
  refine v_icmp_gt F dX0_isReady_10 rfl (fun hq2 => ?_) (fun hq2 => ?_)
  · rw [if_pos hq2] at h
    obtain ⟨z, hu, ez⟩ := up_some h
    clear h
    subst ez
    have h := hu
    clear hu
    refine v_iload_n F dX0_isReady_47 rfl rfl ?_
    obtain ⟨hb, h⟩ := ck_some h
    cases h
    cases (show _ = r from K)
    exact v_zret F hb dX0_isReady_48
  · rw [if_neg hq2] at h
    refine v_iload_n F dX0_isReady_13 rfl rfl ?_
    refine v_aload_n F dX0_isReady_14 rfl rfl ?_
    refine v_iload_n F dX0_isReady_15 rfl rfl ?_
    obtain ⟨x3, hc4, h⟩ := b1_some h
    refine v_callVv (c := 0) F dX0_isReady_16 cv_X0_523 rfl (PB.ob hp hX (Nat.le_of_ble_eq_true rfl)) (Nat.le_of_ble_eq_true rfl) rfl (vm_X0_isBox hp hc4) rfl (rOk.of rfl) ?_
    refine v_if_eq F dX0_isReady_19 rfl (fun hq5 => ?_) (fun hq5 => ?_)
    · rw [if_pos hq5] at h
      refine v_iconst F dX0_isReady_34 ⟨by decide, by decide⟩ ?_
      refine v_goto F dX0_isReady_35 rfl ?_
      refine v_fgt (L' := [mA 1, mU, mI v2]) ⟨Or.inl rfl, Or.inr rfl, Or.inl rfl, trivial⟩ ?_
      exact fX0_isReady_39_ok F hX hp h K
    · rw [if_neg hq5] at h
      refine v_aload_n F dX0_isReady_22 rfl rfl ?_
      refine gf_X0_120 F dX0_isReady_23 hp (v := 78) rfl ?_
      refine v_iload_n F dX0_isReady_26 rfl rfl ?_
      obtain ⟨hi8, h⟩ := ck_some h
      refine v_aaldF (c := 0) (k := 34) F dX0_isReady_27 hp (Nat.le_of_ble_eq_true rfl) (Nat.le_of_ble_eq_true rfl) (by decide) (by decide) rfl (ar_X0_34 hX hp) (Nat.le_of_ble_eq_true rfl) rfl rfl rfl rfl hi8 (v := (677 + 124 * v2)) (by show 1 + 676 + 124 * v2 = _; omega) ?_
      refine gf_X0_436 F dX0_isReady_28 (ae_X0_34 (i := v2) hX hp hi8 (v := (677 + 124 * v2)) (by omega)) ?_
      refine v_if_eq F dX0_isReady_31 rfl (fun hq9 => ?_) (fun hq9 => ?_)
      · rw [if_pos hq9] at h
        refine v_iconst F dX0_isReady_38 ⟨by decide, by decide⟩ ?_
        refine v_fgt (L' := [mA 1, mU, mI v2]) ⟨Or.inl rfl, Or.inr rfl, Or.inl rfl, trivial⟩ ?_
        exact fX0_isReady_39_ok F hX hp h K
      · rw [if_neg hq9] at h
        refine v_iconst F dX0_isReady_34 ⟨by decide, by decide⟩ ?_
        refine v_goto F dX0_isReady_35 rfl ?_
        refine v_fgt (L' := [mA 1, mU, mI v2]) ⟨Or.inl rfl, Or.inr rfl, Or.inl rfl, trivial⟩ ?_
        exact fX0_isReady_39_ok F hX hp h K
theorem fX0_isReady_7_ok {w : Wd} {l : Launch} {G : Cx} {d m dd : Dt} {v1 v2 : Int} {r : Int} {x : Int} (F : Fx w G cX0_isReady RX0 3 (some .boolean) { frames := 3, cells := 0, slots := 0, locals := 64 }) (hX : WF dd m) (hp : PB m 1 0) (h : fX0_isReady_7 d v1 v2 = some x) (K : (fun q => q = r) x) : V w l WF G (QM w G WF (some (mI r)) d m 0 0) d m 0 0 7 [mA 1, mI v1, mI v2] [] := by
  unfold fX0_isReady_7 at h
  exact loop_ok (P := fX0_isReady_7P w l G (QM w G WF (some (mI r)) d m 0 0) m d) (fun s x hx h1 h2 => fX0_isReady_7f_ok F hX hp hx (by
    cases x with
    | inl s' => exact h1 s' rfl
    | inr z => cases h2 z rfl; exact K)) h
theorem vm_X0_isReady {w : Wd} {l : Launch} {d m : Dt} {r : Int} (hp : PB m 1 0) (h : fX0_isReady d = some r) : VM w l WF yX0_isReady cX0_isReady 3 (some .boolean) 3 64 0 0 d m [mA 1] (some (mI r)) d m := by
  obtain ⟨x, h, K⟩ : ∃ x, fX0_isReady d = some x ∧ x = r := ⟨_, h, rfl⟩
  refine VM.of (L := [mA 1, mU, mU]) (by decide +kernel) rfl (Nat.le_of_ble_eq_true rfl) fun G F _ => v_fact fun _ hX _ _ => ?_
  unfold fX0_isReady at h
  refine v_aload_n F dX0_isReady_0 rfl rfl ?_
  refine gf_X0_265 F dX0_isReady_1 hp ?_
  obtain ⟨x1, ex1, h⟩ := lv_some h
  refine v_nI ex1 ?_
  refine v_istore_n F dX0_isReady_4 rfl (Nat.le_of_ble_eq_true rfl) (L' := [mA 1, mI x1, mU]) rfl ?_
  refine v_iconst F dX0_isReady_5 ⟨by decide, by decide⟩ ?_
  refine v_istore_n F dX0_isReady_6 rfl (Nat.le_of_ble_eq_true rfl) (L' := [mA 1, mI x1, mI 0]) rfl ?_
  exact fX0_isReady_7_ok F hX hp h K
theorem vm_X8_beginFirsts {w : Wd} {l : Launch} {d m : Dt} {o : Int} {d' : Dt} (hp : PB m o 8) (h : fX8_beginFirsts d o = some d') : VM w l WF yX8_beginFirsts cX8_beginFirsts 1 none 1 23 0 0 d m [mA o] none d' m := by
  obtain ⟨x, h, K⟩ : ∃ x, fX8_beginFirsts d o = some x ∧ x = d' := ⟨_, h, rfl⟩
  refine VM.of (L := [mA o]) (by decide +kernel) rfl (Nat.le_of_ble_eq_true rfl) fun G F _ => v_fact fun _ hX _ _ => ?_
  unfold fX8_beginFirsts at h
  refine v_aload_n F dX8_beginFirsts_0 rfl rfl ?_
  refine gf_X8_122 F dX8_beginFirsts_1 hp (v := (o + 239)) rfl ?_
  refine v_iconst F dX8_beginFirsts_4 ⟨by decide, by decide⟩ ?_
  obtain ⟨d1, hc2, h⟩ := bd_some h
  refine v_callS0 F dX8_beginFirsts_5 cs_X8_419 rfl (vm_J4_fill_2 (ar_X8_50 hX hp) hc2) rfl (rOk.of rfl) ?_
  refine v_aload_n F dX8_beginFirsts_8 rfl rfl ?_
  refine gf_X8_125 F dX8_beginFirsts_9 hp (v := (o + 240)) rfl ?_
  refine v_iconst F dX8_beginFirsts_12 ⟨by decide, by decide⟩ ?_
  obtain ⟨d3, hc4, h⟩ := bd_some h
  refine v_callS0 F dX8_beginFirsts_13 cs_X8_287 rfl (vm_J4_fill (ar_X8_52 hX hp) hc4) rfl (rOk.of rfl) ?_
  refine v_aload_n F dX8_beginFirsts_16 rfl rfl ?_
  refine v_iconst F dX8_beginFirsts_17 ⟨by decide, by decide⟩ ?_
  obtain ⟨d5, ed5, h⟩ := sd_some h
  refine pf_X8_456 F dX8_beginFirsts_18 hp ?_
  refine v_nD ed5 ?_
  cases h
  cases (show _ = d' from K)
  exact v_vret F dX8_beginFirsts_21
def fX8_begin_31P (w : Wd) (l : Launch) (G : Cx) (Q : State → Prop) (m : Dt) (o a1 a2 a3 : Int) (s : Dt × Int) : Prop := V w l WF G Q s.1 m 0 0 31 [mA o, mU, mA a2, mU, mI (s.2)] []
theorem fX8_begin_82_ok {w : Wd} {l : Launch} {G : Cx} {d m dd : Dt} {o a1 a2 a3 v4 s1 s2 : Int} {d' : Dt} {x : ((Dt × Int) ⊕ Dt)} (F : Fx w G cX8_begin RX8 5 none { frames := 0, cells := 0, slots := 0, locals := 0 }) (hX : WF dd m) (hp : PB m o 8) (hp1 : PB m a1 6) (hp2 : PB m a2 9) (h : fX8_begin_82 d o a1 a2 a3 v4 s1 s2 = some x) (K : (Sum.elim (fX8_begin_31P w l G (QM w G WF none d' m 0 0) m o a1 a2 a3) (fun q => q = d')) x) : V w l WF G (QM w G WF none d' m 0 0) d m 0 0 82 [mA o, mU, mA a2, mU, mI v4] [mI s2, mI s1, mA o] := by
  unfold fX8_begin_82 at h
  refine v_iadd F dX8_begin_82 ?_
  obtain ⟨d19, ed19, h⟩ := sd_some h
  refine pf_X8_149 F dX8_begin_83 hp ?_
  refine v_nD ed19 ?_
  refine v_aload_n F dX8_begin_86 rfl rfl ?_
  refine gf_X8_51 F dX8_begin_87 hp (v := (o + 171)) rfl ?_
  refine v_iload F dX8_begin_90 rfl ?_
  refine v_iconst F dX8_begin_92 ⟨by decide, by decide⟩ ?_
  obtain ⟨hi20, h⟩ := ck_some h
  obtain ⟨d21, ed21, h⟩ := sd_some h
  refine v_zast F dX8_begin_93 (ar_X8_20 hX hp) hi20 ?_
  refine v_nD ed21 ?_
  refine v_aload_n F dX8_begin_94 rfl rfl ?_
  refine gf_X8_54 F dX8_begin_95 hp (v := (o + 172)) rfl ?_
  refine v_iload F dX8_begin_98 rfl ?_
  refine v_iconst F dX8_begin_100 ⟨by decide, by decide⟩ ?_
  obtain ⟨d22, ed22, h⟩ := sd_some h
  refine v_zast F dX8_begin_101 (ar_X8_21 hX hp) hi20 ?_
  refine v_nD ed22 ?_
  obtain ⟨x23, ex23, h⟩ := lv_some h
  refine v_iincN F dX8_begin_102 (Nat.le_of_ble_eq_true rfl) rfl ex23 (L' := [mA o, mU, mA a2, mU, mI x23]) rfl ?_
  refine v_goto F dX8_begin_105 rfl ?_
  cases h
  exact K
theorem fX8_begin_61_ok {w : Wd} {l : Launch} {G : Cx} {d m dd : Dt} {o a1 a2 a3 v4 s1 s2 : Int} {d' : Dt} {x : ((Dt × Int) ⊕ Dt)} (F : Fx w G cX8_begin RX8 5 none { frames := 0, cells := 0, slots := 0, locals := 0 }) (hX : WF dd m) (hp : PB m o 8) (hp1 : PB m a1 6) (hp2 : PB m a2 9) (h : fX8_begin_61 d o a1 a2 a3 v4 s1 s2 = some x) (K : (Sum.elim (fX8_begin_31P w l G (QM w G WF none d' m 0 0) m o a1 a2 a3) (fun q => q = d')) x) : V w l WF G (QM w G WF none d' m 0 0) d m 0 0 61 [mA o, mU, mA a2, mU, mI v4] [mI s2, mI s1, mA (o + 1)] := by
  unfold fX8_begin_61 at h
  obtain ⟨hi15, h⟩ := ck_some h
  obtain ⟨d16, ed16, h⟩ := sd_some h
  refine v_zast F dX8_begin_61 (ar_X8_4 hX hp) hi15 ?_
  refine v_nD ed16 ?_
  refine v_aload_n F dX8_begin_62 rfl rfl ?_
  refine v_dup_A F dX8_begin_63 ?_
  refine gf_X8_149 F dX8_begin_64 hp ?_
  refine v_aload_n F dX8_begin_67 rfl rfl ?_
  refine gf_X8_9 F dX8_begin_68 hp (v := (o + 1)) rfl ?_
  refine v_iload F dX8_begin_71 rfl ?_
  obtain ⟨hi17, h⟩ := ck_some h
  refine v_zald F dX8_begin_73 (ar_X8_4 hX hp) hi17 ?_
  refine v_if_eq F dX8_begin_74 rfl (fun hq18 => ?_) (fun hq18 => ?_)
  · rw [if_pos hq18] at h
    refine v_iconst F dX8_begin_81 ⟨by decide, by decide⟩ ?_
    exact fX8_begin_82_ok F hX hp hp1 hp2 h K
  · rw [if_neg hq18] at h
    refine v_iconst F dX8_begin_77 ⟨by decide, by decide⟩ ?_
    refine v_goto F dX8_begin_78 rfl ?_
    exact fX8_begin_82_ok F hX hp hp1 hp2 h K
theorem fX8_begin_31f_ok {w : Wd} {l : Launch} {G : Cx} {m dd : Dt} {o a1 a2 a3 : Int} {d' : Dt} {s : Dt × Int} {x : ((Dt × Int) ⊕ Dt)} (F : Fx w G cX8_begin RX8 5 none { frames := 0, cells := 0, slots := 0, locals := 0 }) (hX : WF dd m) (hp : PB m o 8) (hp1 : PB m a1 6) (hp2 : PB m a2 9) (h : fX8_begin_31f o a1 a2 a3 s = some x) (K : (Sum.elim (fX8_begin_31P w l G (QM w G WF none d' m 0 0) m o a1 a2 a3) (fun q => q = d')) x) : V w l WF G (QM w G WF none d' m 0 0) s.1 m 0 0 31 [mA o, mU, mA a2, mU, mI (s.2)] [] := by
  obtain ⟨d, v4⟩ := s
  unfold fX8_begin_31f at h
  dsimp only at h
  refine v_iload F dX8_begin_31 rfl ?_
  refine v_aload_n F dX8_begin_33 rfl rfl ?_
  refine gf_X8_148 F dX8_begin_34 hp ?_
  refine v_icmp_ge F dX8_begin_37 rfl (fun hq6 => ?_) (fun hq6 => ?_)
  · rw [if_pos hq6] at h
    obtain ⟨z, hu, ez⟩ := up_some h
    clear h
    subst ez
    have h := hu
    clear hu
    refine v_aload_n F dX8_begin_108 rfl rfl ?_
    refine v_iconst F dX8_begin_109 ⟨by decide, by decide⟩ ?_
    obtain ⟨d7, ed7, h⟩ := sd_some h
    refine pf_X8_155 F dX8_begin_110 hp ?_
    refine v_nD ed7 ?_
    refine v_aload_n F dX8_begin_113 rfl rfl ?_
    refine v_iconst F dX8_begin_114 ⟨by decide, by decide⟩ ?_
    obtain ⟨d8, ed8, h⟩ := sd_some h
    refine pf_X8_158 F dX8_begin_115 hp ?_
    refine v_nD ed8 ?_
    refine v_aload_n F dX8_begin_118 rfl rfl ?_
    refine v_iconst F dX8_begin_119 ⟨by decide, by decide⟩ ?_
    obtain ⟨d9, ed9, h⟩ := sd_some h
    refine pf_X8_161 F dX8_begin_120 hp ?_
    refine v_nD ed9 ?_
    refine v_aload_n F dX8_begin_123 rfl rfl ?_
    refine v_iconst F dX8_begin_124 ⟨by decide, by decide⟩ ?_
    obtain ⟨d10, ed10, h⟩ := sd_some h
    refine pf_X8_164 F dX8_begin_125 hp ?_
    refine v_nD ed10 ?_
    refine v_aload_n F dX8_begin_128 rfl rfl ?_
    refine v_iconst F dX8_begin_129 ⟨by decide, by decide⟩ ?_
    obtain ⟨d11, ed11, h⟩ := sd_some h
    refine pf_X8_167 F dX8_begin_130 hp ?_
    refine v_nD ed11 ?_
    refine v_aload_n F dX8_begin_133 rfl rfl ?_
    refine v_iconst F dX8_begin_134 ⟨by decide, by decide⟩ ?_
    obtain ⟨d12, ed12, h⟩ := sd_some h
    refine pf_X8_170 F dX8_begin_135 hp ?_
    refine v_nD ed12 ?_
    cases h
    cases (show _ = d' from K)
    exact v_vret F dX8_begin_138
  · rw [if_neg hq6] at h
    refine v_aload_n F dX8_begin_40 rfl rfl ?_
    refine gf_X8_9 F dX8_begin_41 hp (v := (o + 1)) rfl ?_
    refine v_iload F dX8_begin_44 rfl ?_
    refine v_aload_n F dX8_begin_46 rfl rfl ?_
    refine gf_X8_152 F dX8_begin_47 hp2 (v := (a2 + 5)) rfl ?_
    refine v_iload F dX8_begin_50 rfl ?_
    obtain ⟨hi13, h⟩ := ck_some h
    refine v_zald F dX8_begin_52 (ar_X9_5 hX hp2) hi13 ?_
    refine v_if_ne F dX8_begin_53 rfl (fun hq14 => ?_) (fun hq14 => ?_)
    · rw [if_neg hq14] at h
      refine v_iconst F dX8_begin_60 ⟨by decide, by decide⟩ ?_
      exact fX8_begin_61_ok F hX hp hp1 hp2 h K
    · rw [if_pos hq14] at h
      refine v_iconst F dX8_begin_56 ⟨by decide, by decide⟩ ?_
      refine v_goto F dX8_begin_57 rfl ?_
      exact fX8_begin_61_ok F hX hp hp1 hp2 h K
theorem fX8_begin_31_ok {w : Wd} {l : Launch} {G : Cx} {d m dd : Dt} {o a1 a2 a3 v4 : Int} {d' : Dt} {x : Dt} (F : Fx w G cX8_begin RX8 5 none { frames := 0, cells := 0, slots := 0, locals := 0 }) (hX : WF dd m) (hp : PB m o 8) (hp1 : PB m a1 6) (hp2 : PB m a2 9) (h : fX8_begin_31 d o a1 a2 a3 v4 = some x) (K : (fun q => q = d') x) : V w l WF G (QM w G WF none d' m 0 0) d m 0 0 31 [mA o, mU, mA a2, mU, mI v4] [] := by
  unfold fX8_begin_31 at h
  exact loop_ok (P := fX8_begin_31P w l G (QM w G WF none d' m 0 0) m o a1 a2 a3) (fun s x hx h1 h2 => fX8_begin_31f_ok F hX hp hp1 hp2 hx (by
    cases x with
    | inl s' => exact h1 s' rfl
    | inr z => cases h2 z rfl; exact K)) h
theorem vm_X8_begin {w : Wd} {l : Launch} {d m : Dt} {o a1 a2 a3 : Int} {d' : Dt} (hp : PB m o 8) (hp1 : PB m a1 6) (hp2 : PB m a2 9) (h : fX8_begin d o a1 a2 a3 = some d') : VM w l WF yX8_begin cX8_begin 5 none 0 0 0 0 d m [mA o, mA a1, mA a2, mI a3] none d' m := by
  obtain ⟨x, h, K⟩ : ∃ x, fX8_begin d o a1 a2 a3 = some x ∧ x = d' := ⟨_, h, rfl⟩
  refine VM.of (L := [mA o, mA a1, mA a2, mI a3, mU]) (by decide +kernel) rfl (Nat.le_of_ble_eq_true rfl) fun G F _ => v_fact fun _ hX _ _ => ?_
  unfold fX8_begin at h
  refine v_aload_n F dX8_begin_0 rfl rfl ?_
  refine v_aload_n F dX8_begin_1 rfl rfl ?_
  obtain ⟨d1, ed1, h⟩ := sd_some h
  refine pf_X8_131 F dX8_begin_2 hp (Or.inr hp1) ?_
  refine v_nD ed1 ?_
  refine v_aload_n F dX8_begin_5 rfl rfl ?_
  refine v_aload_n F dX8_begin_6 rfl rfl ?_
  obtain ⟨d2, ed2, h⟩ := sd_some h
  refine pf_X8_135 F dX8_begin_7 hp (Or.inr hp2) ?_
  refine v_nD ed2 ?_
  refine v_aload_n F dX8_begin_10 rfl rfl ?_
  refine v_iload_n F dX8_begin_11 rfl rfl ?_
  obtain ⟨d3, ed3, h⟩ := sd_some h
  refine pf_X8_139 F dX8_begin_12 hp ?_
  refine v_nD ed3 ?_
  refine v_aload_n F dX8_begin_15 rfl rfl ?_
  refine v_aload_n F dX8_begin_16 rfl rfl ?_
  refine gf_X8_143 F dX8_begin_17 hp2 ?_
  obtain ⟨d4, ed4, h⟩ := sd_some h
  refine pf_X8_148 F dX8_begin_20 hp ?_
  refine v_nD ed4 ?_
  refine v_aload_n F dX8_begin_23 rfl rfl ?_
  refine v_iconst F dX8_begin_24 ⟨by decide, by decide⟩ ?_
  obtain ⟨d5, ed5, h⟩ := sd_some h
  refine pf_X8_149 F dX8_begin_25 hp ?_
  refine v_nD ed5 ?_
  refine v_iconst F dX8_begin_28 ⟨by decide, by decide⟩ ?_
  refine v_istore F dX8_begin_29 (Nat.le_of_ble_eq_true rfl) (L' := [mA o, mA a1, mA a2, mI a3, mI 0]) rfl ?_
  refine v_fgt (L' := [mA o, mU, mA a2, mU, mI 0]) ⟨Or.inl rfl, Or.inr rfl, Or.inl rfl, Or.inr rfl, Or.inl rfl, trivial⟩ ?_
  exact fX8_begin_31_ok F hX hp hp1 hp2 h K
theorem vm_X0_fieldOf {w : Wd} {l : Launch} {d m : Dt} {a1 a2 : Int} {r : Int} (hp : PB m 1 0) (h : fX0_fieldOf d a1 a2 = some r) : VM w l WF yX0_fieldOf cX0_fieldOf 3 (some .int) 1 23 0 0 d m [mA 1, mI a1, mI a2] (some (mI r)) d m := by
  obtain ⟨x, h, K⟩ : ∃ x, fX0_fieldOf d a1 a2 = some x ∧ x = r := ⟨_, h, rfl⟩
  refine VM.of (L := [mA 1, mI a1, mI a2]) (by decide +kernel) rfl (Nat.le_of_ble_eq_true rfl) fun G F _ => v_fact fun _ hX _ _ => ?_
  unfold fX0_fieldOf at h
  refine v_aload_n F dX0_fieldOf_0 rfl rfl ?_
  refine v_iload_n F dX0_fieldOf_1 rfl rfl ?_
  refine v_iconst F dX0_fieldOf_2 ⟨by decide, by decide⟩ ?_
  refine v_iload_n F dX0_fieldOf_3 rfl rfl ?_
  refine v_ishl F dX0_fieldOf_4 ?_
  refine v_iconst F dX0_fieldOf_5 ⟨by decide, by decide⟩ ?_
  refine v_isub F dX0_fieldOf_6 ?_
  refine v_iand F dX0_fieldOf_7 ?_
  obtain ⟨x1, hc2, h⟩ := b1_some h
  refine v_callVv (c := 0) F dX0_fieldOf_8 cv_X0_468 rfl (PB.ob hp hX (Nat.le_of_ble_eq_true rfl)) (Nat.le_of_ble_eq_true rfl) rfl (vm_X0_fieldsOf hp hc2) rfl (rOk.of rfl) ?_
  cases h
  cases (show _ = r from K)
  exact v_iret F dX0_fieldOf_11
def fX8_rank_7P (w : Wd) (l : Launch) (G : Cx) (Q : State → Prop) (m : Dt) (o a1 : Int) (s : Dt × Int × Int × Int) : Prop := V w l WF G Q s.1 m 0 0 7 [mA o, mA a1, mI (s.2.1), mI (s.2.2.1), mI (s.2.2.2), mU, mU] []
def fX8_rank_24P (w : Wd) (l : Launch) (G : Cx) (Q : State → Prop) (m : Dt) (d : Dt) (o a1 v2 v4 : Int) (s : Int × Int × Int) : Prop := V w l WF G Q d m 0 0 24 [mA o, mA a1, mI v2, mI (s.1), mI v4, mI (s.2.1), mI (s.2.2)] []
theorem fX8_rank_71_ok {w : Wd} {l : Launch} {G : Cx} {d m dd : Dt} {o a1 v2 v3 v4 v5 : Int} {d' : Dt} {r : Int} {x : ((Dt × Int × Int × Int) ⊕ (Dt × Int))} (F : Fx w G cX8_rank RX8 7 (some .int) { frames := 0, cells := 0, slots := 0, locals := 0 }) (hX : WF dd m) (hp : PB m o 8) (hp1 : AR m a1 101 9) (h : fX8_rank_71 d o a1 v2 v3 v4 v5 = some x) (K : (Sum.elim (fX8_rank_7P w l G (QM w G WF (some (mI r)) d' m 0 0) m o a1) (fun q => q = (d', r))) x) : V w l WF G (QM w G WF (some (mI r)) d' m 0 0) d m 0 0 71 [mA o, mA a1, mI v2, mI v3, mI v4, mI v5, mU] [] := by
  unfold fX8_rank_71 at h
  refine v_iload_n F dX8_rank_71 rfl rfl ?_
  refine v_if_eq F dX8_rank_72 rfl (fun hq4 => ?_) (fun hq4 => ?_)
  · rw [if_pos hq4] at h
    obtain ⟨x5, ex5, h⟩ := lv_some h
    refine v_iincN F dX8_rank_89 (Nat.le_of_ble_eq_true rfl) rfl ex5 (L' := [mA o, mA a1, mI v2, mI v3, mI x5, mI v5, mU]) rfl ?_
    refine v_goto F dX8_rank_92 rfl ?_
    cases h
    refine v_fgt (L' := [mA o, mA a1, mI v2, mI v3, mI x5, mU, mU]) ⟨Or.inl rfl, Or.inl rfl, Or.inl rfl, Or.inl rfl, Or.inl rfl, Or.inr rfl, Or.inl rfl, trivial⟩ ?_
    exact K
  · rw [if_neg hq4] at h
    refine v_iload F dX8_rank_75 rfl ?_
    refine v_iconst F dX8_rank_77 ⟨by decide, by decide⟩ ?_
    refine v_icmp_eq F dX8_rank_78 rfl (fun hq6 => ?_) (fun hq6 => ?_)
    · rw [if_pos hq6] at h
      obtain ⟨x7, ex7, h⟩ := lv_some h
      refine v_iincN F dX8_rank_89 (Nat.le_of_ble_eq_true rfl) rfl ex7 (L' := [mA o, mA a1, mI v2, mI v3, mI x7, mI v5, mU]) rfl ?_
      refine v_goto F dX8_rank_92 rfl ?_
      cases h
      refine v_fgt (L' := [mA o, mA a1, mI v2, mI v3, mI x7, mU, mU]) ⟨Or.inl rfl, Or.inl rfl, Or.inl rfl, Or.inl rfl, Or.inl rfl, Or.inr rfl, Or.inl rfl, trivial⟩ ?_
      exact K
    · rw [if_neg hq6] at h
      refine v_aload_n F dX8_rank_81 rfl rfl ?_
      refine v_iload_n F dX8_rank_82 rfl rfl ?_
      refine v_iload F dX8_rank_83 rfl ?_
      obtain ⟨hi8, h⟩ := ck_some h
      obtain ⟨d9, ed9, h⟩ := sd_some h
      refine v_iast F dX8_rank_85 hp1 hi8 ?_
      refine v_nD ed9 ?_
      obtain ⟨x10, ex10, h⟩ := lv_some h
      refine v_iincN F dX8_rank_86 (Nat.le_of_ble_eq_true rfl) rfl ex10 (L' := [mA o, mA a1, mI x10, mI v3, mI v4, mI v5, mU]) rfl ?_
      obtain ⟨x11, ex11, h⟩ := lv_some h
      refine v_iincN F dX8_rank_89 (Nat.le_of_ble_eq_true rfl) rfl ex11 (L' := [mA o, mA a1, mI x10, mI v3, mI x11, mI v5, mU]) rfl ?_
      refine v_goto F dX8_rank_92 rfl ?_
      cases h
      refine v_fgt (L' := [mA o, mA a1, mI x10, mI v3, mI x11, mU, mU]) ⟨Or.inl rfl, Or.inl rfl, Or.inl rfl, Or.inl rfl, Or.inl rfl, Or.inr rfl, Or.inl rfl, trivial⟩ ?_
      exact K
theorem fX8_rank_24f_ok {w : Wd} {l : Launch} {G : Cx} {d m dd : Dt} {o a1 v2 v4 : Int} {d' : Dt} {r : Int} {s : Int × Int × Int} {x : ((Int × Int × Int) ⊕ ((Dt × Int × Int × Int) ⊕ (Dt × Int)))} (F : Fx w G cX8_rank RX8 7 (some .int) { frames := 0, cells := 0, slots := 0, locals := 0 }) (hX : WF dd m) (hp : PB m o 8) (hp1 : AR m a1 101 9) (h : fX8_rank_24f d o a1 v2 v4 s = some x) (K : (Sum.elim (fX8_rank_24P w l G (QM w G WF (some (mI r)) d' m 0 0) m d o a1 v2 v4) (Sum.elim (fX8_rank_7P w l G (QM w G WF (some (mI r)) d' m 0 0) m o a1) (fun q => q = (d', r)))) x) : V w l WF G (QM w G WF (some (mI r)) d' m 0 0) d m 0 0 24 [mA o, mA a1, mI v2, mI (s.1), mI v4, mI (s.2.1), mI (s.2.2)] [] := by
  obtain ⟨v3, v5, v6⟩ := s
  unfold fX8_rank_24f at h
  dsimp only at h
  refine v_iload F dX8_rank_24 rfl ?_
  refine v_aload_n F dX8_rank_26 rfl rfl ?_
  refine gf_X8_148 F dX8_rank_27 hp ?_
  refine v_icmp_ge F dX8_rank_30 rfl (fun hq3 => ?_) (fun hq3 => ?_)
  · rw [if_pos hq3] at h
    obtain ⟨z, hu, ez⟩ := up_some h
    clear h
    subst ez
    have h := hu
    clear hu
    refine v_fgt (L' := [mA o, mA a1, mI v2, mI v3, mI v4, mI v5, mU]) ⟨Or.inl rfl, Or.inl rfl, Or.inl rfl, Or.inl rfl, Or.inl rfl, Or.inl rfl, Or.inr rfl, trivial⟩ ?_
    exact fX8_rank_71_ok F hX hp hp1 h K
  · rw [if_neg hq3] at h
    refine v_iload_n F dX8_rank_33 rfl rfl ?_
    refine v_if_eq F dX8_rank_34 rfl (fun hq12 => ?_) (fun hq12 => ?_)
    · rw [if_pos hq12] at h
      obtain ⟨z, hu, ez⟩ := up_some h
      clear h
      subst ez
      have h := hu
      clear hu
      refine v_fgt (L' := [mA o, mA a1, mI v2, mI v3, mI v4, mI v5, mU]) ⟨Or.inl rfl, Or.inl rfl, Or.inl rfl, Or.inl rfl, Or.inl rfl, Or.inl rfl, Or.inr rfl, trivial⟩ ?_
      exact fX8_rank_71_ok F hX hp hp1 h K
    · rw [if_neg hq12] at h
      refine v_aload_n F dX8_rank_37 rfl rfl ?_
      refine gf_X8_20 F dX8_rank_38 hp (v := (o + 63)) rfl ?_
      refine v_iload F dX8_rank_41 rfl ?_
      obtain ⟨hi13, h⟩ := ck_some h
      refine v_bald F dX8_rank_43 (ar_X8_7 hX hp) hi13 ?_
      refine v_iload F dX8_rank_44 rfl ?_
      refine v_icmp_ne F dX8_rank_46 rfl (fun hq14 => ?_) (fun hq14 => ?_)
      · rw [if_neg hq14] at h
        obtain ⟨x15, ex15, h⟩ := lv_some h
        refine v_iincN F dX8_rank_65 (Nat.le_of_ble_eq_true rfl) rfl ex15 (L' := [mA o, mA a1, mI v2, mI v3, mI v4, mI v5, mI x15]) rfl ?_
        refine v_goto F dX8_rank_68 rfl ?_
        cases h
        exact K
      · rw [if_pos hq14] at h
        refine v_iload F dX8_rank_49 rfl ?_
        refine v_iconst F dX8_rank_51 ⟨by decide, by decide⟩ ?_
        refine v_icmp_ne F dX8_rank_52 rfl (fun hq16 => ?_) (fun hq16 => ?_)
        · rw [if_neg hq16] at h
          refine v_iconst F dX8_rank_59 ⟨by decide, by decide⟩ ?_
          refine v_istore_n F dX8_rank_60 rfl (Nat.le_of_ble_eq_true rfl) (L' := [mA o, mA a1, mI v2, mI 0, mI v4, mI v5, mI v6]) rfl ?_
          refine v_iload F dX8_rank_61 rfl ?_
          refine v_istore F dX8_rank_63 (Nat.le_of_ble_eq_true rfl) (L' := [mA o, mA a1, mI v2, mI 0, mI v4, mI v6, mI v6]) rfl ?_
          obtain ⟨x17, ex17, h⟩ := lv_some h
          refine v_iincN F dX8_rank_65 (Nat.le_of_ble_eq_true rfl) rfl ex17 (L' := [mA o, mA a1, mI v2, mI 0, mI v4, mI v6, mI x17]) rfl ?_
          refine v_goto F dX8_rank_68 rfl ?_
          cases h
          exact K
        · rw [if_pos hq16] at h
          refine v_iconst F dX8_rank_55 ⟨by decide, by decide⟩ ?_
          refine v_goto F dX8_rank_56 rfl ?_
          refine v_istore_n F dX8_rank_60 rfl (Nat.le_of_ble_eq_true rfl) (L' := [mA o, mA a1, mI v2, mI 1, mI v4, mI v5, mI v6]) rfl ?_
          refine v_iload F dX8_rank_61 rfl ?_
          refine v_istore F dX8_rank_63 (Nat.le_of_ble_eq_true rfl) (L' := [mA o, mA a1, mI v2, mI 1, mI v4, mI v6, mI v6]) rfl ?_
          obtain ⟨x18, ex18, h⟩ := lv_some h
          refine v_iincN F dX8_rank_65 (Nat.le_of_ble_eq_true rfl) rfl ex18 (L' := [mA o, mA a1, mI v2, mI 1, mI v4, mI v6, mI x18]) rfl ?_
          refine v_goto F dX8_rank_68 rfl ?_
          cases h
          exact K
theorem fX8_rank_24_ok {w : Wd} {l : Launch} {G : Cx} {d m dd : Dt} {o a1 v2 v3 v4 v5 v6 : Int} {d' : Dt} {r : Int} {x : ((Dt × Int × Int × Int) ⊕ (Dt × Int))} (F : Fx w G cX8_rank RX8 7 (some .int) { frames := 0, cells := 0, slots := 0, locals := 0 }) (hX : WF dd m) (hp : PB m o 8) (hp1 : AR m a1 101 9) (h : fX8_rank_24 d o a1 v2 v3 v4 v5 v6 = some x) (K : (Sum.elim (fX8_rank_7P w l G (QM w G WF (some (mI r)) d' m 0 0) m o a1) (fun q => q = (d', r))) x) : V w l WF G (QM w G WF (some (mI r)) d' m 0 0) d m 0 0 24 [mA o, mA a1, mI v2, mI v3, mI v4, mI v5, mI v6] [] := by
  unfold fX8_rank_24 at h
  exact loop_ok (P := fX8_rank_24P w l G (QM w G WF (some (mI r)) d' m 0 0) m d o a1 v2 v4) (fun s x hx h1 h2 => fX8_rank_24f_ok F hX hp hp1 hx (by
    cases x with
    | inl s' => exact h1 s' rfl
    | inr z => cases h2 z rfl; exact K)) h
theorem fX8_rank_7f_ok {w : Wd} {l : Launch} {G : Cx} {m dd : Dt} {o a1 : Int} {d' : Dt} {r : Int} {s : Dt × Int × Int × Int} {x : ((Dt × Int × Int × Int) ⊕ (Dt × Int))} (F : Fx w G cX8_rank RX8 7 (some .int) { frames := 0, cells := 0, slots := 0, locals := 0 }) (hX : WF dd m) (hp : PB m o 8) (hp1 : AR m a1 101 9) (h : fX8_rank_7f o a1 s = some x) (K : (Sum.elim (fX8_rank_7P w l G (QM w G WF (some (mI r)) d' m 0 0) m o a1) (fun q => q = (d', r))) x) : V w l WF G (QM w G WF (some (mI r)) d' m 0 0) s.1 m 0 0 7 [mA o, mA a1, mI (s.2.1), mI (s.2.2.1), mI (s.2.2.2), mU, mU] [] := by
  obtain ⟨d, v2, v3, v4⟩ := s
  unfold fX8_rank_7f at h
  dsimp only at h
  refine v_iload F dX8_rank_7 rfl ?_
  refine v_bipush F dX8_rank_9 rfl ⟨by decide, by decide⟩ ?_
  refine v_icmp_ge F dX8_rank_11 rfl (fun hq1 => ?_) (fun hq1 => ?_)
  · rw [if_pos hq1] at h
    obtain ⟨z, hu, ez⟩ := up_some h
    clear h
    subst ez
    have h := hu
    clear hu
    refine v_iload_n F dX8_rank_95 rfl rfl ?_
    cases h
    cases (show _ = (d', r) from K)
    exact v_iret F dX8_rank_96
  · rw [if_neg hq1] at h
    refine v_iload_n F dX8_rank_14 rfl rfl ?_
    refine v_if_eq F dX8_rank_15 rfl (fun hq2 => ?_) (fun hq2 => ?_)
    · rw [if_pos hq2] at h
      obtain ⟨z, hu, ez⟩ := up_some h
      clear h
      subst ez
      have h := hu
      clear hu
      refine v_iload_n F dX8_rank_95 rfl rfl ?_
      cases h
      cases (show _ = (d', r) from K)
      exact v_iret F dX8_rank_96
    · rw [if_neg hq2] at h
      refine v_iconst F dX8_rank_18 ⟨by decide, by decide⟩ ?_
      refine v_istore F dX8_rank_19 (Nat.le_of_ble_eq_true rfl) (L' := [mA o, mA a1, mI v2, mI v3, mI v4, mI (-1), mU]) rfl ?_
      refine v_iconst F dX8_rank_21 ⟨by decide, by decide⟩ ?_
      refine v_istore F dX8_rank_22 (Nat.le_of_ble_eq_true rfl) (L' := [mA o, mA a1, mI v2, mI v3, mI v4, mI (-1), mI 0]) rfl ?_
      exact fX8_rank_24_ok F hX hp hp1 h K
theorem fX8_rank_7_ok {w : Wd} {l : Launch} {G : Cx} {d m dd : Dt} {o a1 v2 v3 v4 : Int} {d' : Dt} {r : Int} {x : (Dt × Int)} (F : Fx w G cX8_rank RX8 7 (some .int) { frames := 0, cells := 0, slots := 0, locals := 0 }) (hX : WF dd m) (hp : PB m o 8) (hp1 : AR m a1 101 9) (h : fX8_rank_7 d o a1 v2 v3 v4 = some x) (K : (fun q => q = (d', r)) x) : V w l WF G (QM w G WF (some (mI r)) d' m 0 0) d m 0 0 7 [mA o, mA a1, mI v2, mI v3, mI v4, mU, mU] [] := by
  unfold fX8_rank_7 at h
  exact loop_ok (P := fX8_rank_7P w l G (QM w G WF (some (mI r)) d' m 0 0) m o a1) (fun s x hx h1 h2 => fX8_rank_7f_ok F hX hp hp1 hx (by
    cases x with
    | inl s' => exact h1 s' rfl
    | inr z => cases h2 z rfl; exact K)) h
theorem vm_X8_rank {w : Wd} {l : Launch} {d m : Dt} {o a1 : Int} {d' : Dt} {r : Int} (hp : PB m o 8) (hp1 : AR m a1 101 9) (h : fX8_rank d o a1 = some (d', r)) : VM w l WF yX8_rank cX8_rank 7 (some .int) 0 0 0 0 d m [mA o, mA a1] (some (mI r)) d' m := by
  obtain ⟨x, h, K⟩ : ∃ x, fX8_rank d o a1 = some x ∧ x = (d', r) := ⟨_, h, rfl⟩
  refine VM.of (L := [mA o, mA a1, mU, mU, mU, mU, mU]) (by decide +kernel) rfl (Nat.le_of_ble_eq_true rfl) fun G F _ => v_fact fun _ hX _ _ => ?_
  unfold fX8_rank at h
  refine v_iconst F dX8_rank_0 ⟨by decide, by decide⟩ ?_
  refine v_istore_n F dX8_rank_1 rfl (Nat.le_of_ble_eq_true rfl) (L' := [mA o, mA a1, mI 0, mU, mU, mU, mU]) rfl ?_
  refine v_iconst F dX8_rank_2 ⟨by decide, by decide⟩ ?_
  refine v_istore_n F dX8_rank_3 rfl (Nat.le_of_ble_eq_true rfl) (L' := [mA o, mA a1, mI 0, mI 1, mU, mU, mU]) rfl ?_
  refine v_iconst F dX8_rank_4 ⟨by decide, by decide⟩ ?_
  refine v_istore F dX8_rank_5 (Nat.le_of_ble_eq_true rfl) (L' := [mA o, mA a1, mI 0, mI 1, mI 1, mU, mU]) rfl ?_
  exact fX8_rank_7_ok F hX hp hp1 h K
def fX8_listOf_2P (w : Wd) (l : Launch) (G : Cx) (Q : State → Prop) (m : Dt) (d : Dt) (o a1 : Int) (s : Int) : Prop := V w l WF G Q d m 0 0 2 [mA o, mI a1, mI (s)] []
theorem fX8_listOf_2f_ok {w : Wd} {l : Launch} {G : Cx} {d m dd : Dt} {o a1 : Int} {r : Int} {s : Int} {x : ((Int) ⊕ Int)} (F : Fx w G cX8_listOf RX8 3 (some .int) { frames := 0, cells := 0, slots := 0, locals := 0 }) (hX : WF dd m) (hp : PB m o 8) (h : fX8_listOf_2f d o a1 s = some x) (K : (Sum.elim (fX8_listOf_2P w l G (QM w G WF (some (mI r)) d m 0 0) m d o a1) (fun q => q = r)) x) : V w l WF G (QM w G WF (some (mI r)) d m 0 0) d m 0 0 2 [mA o, mI a1, mI (s)] [] := by
  obtain ⟨v2, rfl⟩ : ∃ z, z = s := ⟨s, rfl⟩
  unfold fX8_listOf_2f at h
  dsimp only at h
  refine v_iload_n F dX8_listOf_2 rfl rfl ?_
  refine v_iload_n F dX8_listOf_3 rfl rfl ?_
  refine v_icmp_ge F dX8_listOf_4 rfl (fun hq1 => ?_) (fun hq1 => ?_)
  · rw [if_pos hq1] at h
    obtain ⟨z, hu, ez⟩ := up_some h
    clear h
    subst ez
    have h := hu
    clear hu
    refine v_iload_n F dX8_listOf_58 rfl rfl ?_
    cases h
    cases (show _ = r from K)
    exact v_iret F dX8_listOf_59
  · rw [if_neg hq1] at h
    refine v_aload_n F dX8_listOf_7 rfl rfl ?_
    refine gf_X8_9 F dX8_listOf_8 hp (v := (o + 1)) rfl ?_
    refine v_iload_n F dX8_listOf_11 rfl rfl ?_
    obtain ⟨hi2, h⟩ := ck_some h
    refine v_zald F dX8_listOf_12 (ar_X8_4 hX hp) hi2 ?_
    refine v_if_eq F dX8_listOf_13 rfl (fun hq3 => ?_) (fun hq3 => ?_)
    · rw [if_pos hq3] at h
      obtain ⟨x4, ex4, h⟩ := lv_some h
      refine v_iincN F dX8_listOf_52 (Nat.le_of_ble_eq_true rfl) rfl ex4 (L' := [mA o, mI a1, mI x4]) rfl ?_
      refine v_goto F dX8_listOf_55 rfl ?_
      cases h
      exact K
    · rw [if_neg hq3] at h
      refine v_aload_n F dX8_listOf_16 rfl rfl ?_
      obtain ⟨x5, ex5, h⟩ := lv_some h
      obtain ⟨hn7, h⟩ := ck_some h
      refine gf_X8_135 F dX8_listOf_17 hp ex5 fun hr6 => ?_
      have x5p := hr6.resolve_left hn7
      refine gf_X8_413 F dX8_listOf_20 x5p (v := (x5 + 3)) rfl ?_
      refine v_iload_n F dX8_listOf_23 rfl rfl ?_
      refine v_iald F dX8_listOf_24 (ar_X9_3 hX x5p) hi2 ?_
      refine v_iconst F dX8_listOf_25 ⟨by decide, by decide⟩ ?_
      refine v_icmp_eq F dX8_listOf_26 rfl (fun hq8 => ?_) (fun hq8 => ?_)
      · rw [if_pos hq8] at h
        obtain ⟨x9, ex9, h⟩ := lv_some h
        refine v_iincN F dX8_listOf_52 (Nat.le_of_ble_eq_true rfl) rfl ex9 (L' := [mA o, mI a1, mI x9]) rfl ?_
        refine v_goto F dX8_listOf_55 rfl ?_
        cases h
        exact K
      · rw [if_neg hq8] at h
        refine v_aload_n F dX8_listOf_29 rfl rfl ?_
        obtain ⟨x10, ex10, h⟩ := lv_some h
        obtain ⟨hn12, h⟩ := ck_some h
        refine gf_X8_135 F dX8_listOf_30 hp ex10 fun hr11 => ?_
        have x10p := hr11.resolve_left hn12
        refine gf_X8_413 F dX8_listOf_33 x10p (v := (x10 + 3)) rfl ?_
        refine v_iload_n F dX8_listOf_36 rfl rfl ?_
        refine v_iald F dX8_listOf_37 (ar_X9_3 hX x10p) hi2 ?_
        refine v_aload_n F dX8_listOf_38 rfl rfl ?_
        obtain ⟨x13, ex13, h⟩ := lv_some h
        obtain ⟨hn15, h⟩ := ck_some h
        refine gf_X8_135 F dX8_listOf_39 hp ex13 fun hr14 => ?_
        have x13p := hr14.resolve_left hn15
        refine gf_X8_413 F dX8_listOf_42 x13p (v := (x13 + 3)) rfl ?_
        refine v_iload_n F dX8_listOf_45 rfl rfl ?_
        obtain ⟨hi16, h⟩ := ck_some h
        refine v_iald F dX8_listOf_46 (ar_X9_3 hX x13p) hi16 ?_
        refine v_icmp_ne F dX8_listOf_47 rfl (fun hq17 => ?_) (fun hq17 => ?_)
        · rw [if_neg hq17] at h
          obtain ⟨x18, ex18, h⟩ := lv_some h
          refine v_iincN F dX8_listOf_52 (Nat.le_of_ble_eq_true rfl) rfl ex18 (L' := [mA o, mI a1, mI x18]) rfl ?_
          refine v_goto F dX8_listOf_55 rfl ?_
          cases h
          exact K
        · rw [if_pos hq17] at h
          obtain ⟨z, hu, ez⟩ := up_some h
          clear h
          subst ez
          have h := hu
          clear hu
          refine v_iload_n F dX8_listOf_50 rfl rfl ?_
          cases h
          cases (show _ = r from K)
          exact v_iret F dX8_listOf_51
theorem fX8_listOf_2_ok {w : Wd} {l : Launch} {G : Cx} {d m dd : Dt} {o a1 v2 : Int} {r : Int} {x : Int} (F : Fx w G cX8_listOf RX8 3 (some .int) { frames := 0, cells := 0, slots := 0, locals := 0 }) (hX : WF dd m) (hp : PB m o 8) (h : fX8_listOf_2 d o a1 v2 = some x) (K : (fun q => q = r) x) : V w l WF G (QM w G WF (some (mI r)) d m 0 0) d m 0 0 2 [mA o, mI a1, mI v2] [] := by
  unfold fX8_listOf_2 at h
  exact loop_ok (P := fX8_listOf_2P w l G (QM w G WF (some (mI r)) d m 0 0) m d o a1) (fun s x hx h1 h2 => fX8_listOf_2f_ok F hX hp hx (by
    cases x with
    | inl s' => exact h1 s' rfl
    | inr z => cases h2 z rfl; exact K)) h
theorem vm_X8_listOf {w : Wd} {l : Launch} {d m : Dt} {o a1 : Int} {r : Int} (hp : PB m o 8) (h : fX8_listOf d o a1 = some r) : VM w l WF yX8_listOf cX8_listOf 3 (some .int) 0 0 0 0 d m [mA o, mI a1] (some (mI r)) d m := by
  obtain ⟨x, h, K⟩ : ∃ x, fX8_listOf d o a1 = some x ∧ x = r := ⟨_, h, rfl⟩
  refine VM.of (L := [mA o, mI a1, mU]) (by decide +kernel) rfl (Nat.le_of_ble_eq_true rfl) fun G F _ => v_fact fun _ hX _ _ => ?_
  unfold fX8_listOf at h
  refine v_iconst F dX8_listOf_0 ⟨by decide, by decide⟩ ?_
  refine v_istore_n F dX8_listOf_1 rfl (Nat.le_of_ble_eq_true rfl) (L' := [mA o, mI a1, mI 0]) rfl ?_
  exact fX8_listOf_2_ok F hX hp h K
def fX8_isOneList_6P (w : Wd) (l : Launch) (G : Cx) (Q : State → Prop) (m : Dt) (d : Dt) (o : Int) (s : Int × Int × Int) : Prop := V w l WF G Q d m 0 0 6 [mA o, mI (s.1), mI (s.2.1), mI (s.2.2)] []
theorem fX8_isOneList_47_ok {w : Wd} {l : Launch} {G : Cx} {d m dd : Dt} {o v3 s0 s1 : Int} {r : Int} {x : ((Int × Int × Int) ⊕ Int)} (F : Fx w G cX8_isOneList RX8 4 (some .boolean) { frames := 1, cells := 0, slots := 0, locals := 22 }) (hX : WF dd m) (hp : PB m o 8) (h : fX8_isOneList_47 d o v3 s0 s1 = some x) (K : (Sum.elim (fX8_isOneList_6P w l G (QM w G WF (some (mI r)) d m 0 0) m d o) (fun q => q = r)) x) : V w l WF G (QM w G WF (some (mI r)) d m 0 0) d m 0 0 47 [mA o, mU, mU, mI v3] [mI s1, mI s0] := by
  unfold fX8_isOneList_47 at h
  refine v_iand F dX8_isOneList_47 ?_
  obtain ⟨x6, ex6, h⟩ := lv_some h
  refine v_nI ex6 ?_
  refine v_istore_n F dX8_isOneList_48 rfl (Nat.le_of_ble_eq_true rfl) (L' := [mA o, mU, mI x6, mI v3]) rfl ?_
  refine v_iload_n F dX8_isOneList_49 rfl rfl ?_
  refine v_istore_n F dX8_isOneList_50 rfl (Nat.le_of_ble_eq_true rfl) (L' := [mA o, mI v3, mI x6, mI v3]) rfl ?_
  obtain ⟨x7, ex7, h⟩ := lv_some h
  refine v_iincN F dX8_isOneList_51 (Nat.le_of_ble_eq_true rfl) rfl ex7 (L' := [mA o, mI v3, mI x6, mI x7]) rfl ?_
  refine v_goto F dX8_isOneList_54 rfl ?_
  cases h
  exact K
theorem fX8_isOneList_6f_ok {w : Wd} {l : Launch} {G : Cx} {d m dd : Dt} {o : Int} {r : Int} {s : Int × Int × Int} {x : ((Int × Int × Int) ⊕ Int)} (F : Fx w G cX8_isOneList RX8 4 (some .boolean) { frames := 1, cells := 0, slots := 0, locals := 22 }) (hX : WF dd m) (hp : PB m o 8) (h : fX8_isOneList_6f d o s = some x) (K : (Sum.elim (fX8_isOneList_6P w l G (QM w G WF (some (mI r)) d m 0 0) m d o) (fun q => q = r)) x) : V w l WF G (QM w G WF (some (mI r)) d m 0 0) d m 0 0 6 [mA o, mI (s.1), mI (s.2.1), mI (s.2.2)] [] := by
  obtain ⟨v1, v2, v3⟩ := s
  unfold fX8_isOneList_6f at h
  dsimp only at h
  refine v_iload_n F dX8_isOneList_6 rfl rfl ?_
  refine v_aload_n F dX8_isOneList_7 rfl rfl ?_
  refine gf_X8_148 F dX8_isOneList_8 hp ?_
  refine v_icmp_ge F dX8_isOneList_11 rfl (fun hq1 => ?_) (fun hq1 => ?_)
  · rw [if_pos hq1] at h
    obtain ⟨z, hu, ez⟩ := up_some h
    clear h
    subst ez
    have h := hu
    clear hu
    refine v_iload_n F dX8_isOneList_57 rfl rfl ?_
    obtain ⟨hb, h⟩ := ck_some h
    cases h
    cases (show _ = r from K)
    exact v_zret F hb dX8_isOneList_58
  · rw [if_neg hq1] at h
    refine v_aload_n F dX8_isOneList_14 rfl rfl ?_
    refine gf_X8_20 F dX8_isOneList_15 hp (v := (o + 63)) rfl ?_
    refine v_iload_n F dX8_isOneList_18 rfl rfl ?_
    obtain ⟨hi2, h⟩ := ck_some h
    refine v_bald F dX8_isOneList_19 (ar_X8_7 hX hp) hi2 ?_
    refine v_if_le F dX8_isOneList_20 rfl (fun hq3 => ?_) (fun hq3 => ?_)
    · rw [if_pos hq3] at h
      obtain ⟨x4, ex4, h⟩ := lv_some h
      refine v_iincN F dX8_isOneList_51 (Nat.le_of_ble_eq_true rfl) rfl ex4 (L' := [mA o, mI v1, mI v2, mI x4]) rfl ?_
      refine v_goto F dX8_isOneList_54 rfl ?_
      cases h
      exact K
    · rw [if_neg hq3] at h
      refine v_iload_n F dX8_isOneList_23 rfl rfl ?_
      refine v_iload_n F dX8_isOneList_24 rfl rfl ?_
      refine v_iconst F dX8_isOneList_25 ⟨by decide, by decide⟩ ?_
      refine v_icmp_eq F dX8_isOneList_26 rfl (fun hq5 => ?_) (fun hq5 => ?_)
      · rw [if_pos hq5] at h
        refine v_iconst F dX8_isOneList_42 ⟨by decide, by decide⟩ ?_
        refine v_goto F dX8_isOneList_43 rfl ?_
        refine v_fgt (L' := [mA o, mU, mU, mI v3]) ⟨Or.inl rfl, Or.inr rfl, Or.inr rfl, Or.inl rfl, trivial⟩ ?_
        exact fX8_isOneList_47_ok F hX hp h K
      · rw [if_neg hq5] at h
        refine v_aload_n F dX8_isOneList_29 rfl rfl ?_
        refine v_iload_n F dX8_isOneList_30 rfl rfl ?_
        obtain ⟨x8, hc9, h⟩ := b1_some h
        refine v_callVv (c := 8) F dX8_isOneList_31 cv_X8_195 rfl (PB.ob hp hX (Nat.le_of_ble_eq_true rfl)) (Nat.le_of_ble_eq_true rfl) rfl (vm_X8_listOf hp hc9) rfl (rOk.of rfl) ?_
        refine v_aload_n F dX8_isOneList_34 rfl rfl ?_
        refine v_iload_n F dX8_isOneList_35 rfl rfl ?_
        obtain ⟨x10, hc11, h⟩ := b1_some h
        refine v_callVv (c := 8) F dX8_isOneList_36 cv_X8_195 rfl (PB.ob hp hX (Nat.le_of_ble_eq_true rfl)) (Nat.le_of_ble_eq_true rfl) rfl (vm_X8_listOf hp hc11) rfl (rOk.of rfl) ?_
        refine v_icmp_ne F dX8_isOneList_39 rfl (fun hq12 => ?_) (fun hq12 => ?_)
        · rw [if_neg hq12] at h
          refine v_iconst F dX8_isOneList_46 ⟨by decide, by decide⟩ ?_
          refine v_fgt (L' := [mA o, mU, mU, mI v3]) ⟨Or.inl rfl, Or.inr rfl, Or.inr rfl, Or.inl rfl, trivial⟩ ?_
          exact fX8_isOneList_47_ok F hX hp h K
        · rw [if_pos hq12] at h
          refine v_iconst F dX8_isOneList_42 ⟨by decide, by decide⟩ ?_
          refine v_goto F dX8_isOneList_43 rfl ?_
          refine v_fgt (L' := [mA o, mU, mU, mI v3]) ⟨Or.inl rfl, Or.inr rfl, Or.inr rfl, Or.inl rfl, trivial⟩ ?_
          exact fX8_isOneList_47_ok F hX hp h K
theorem fX8_isOneList_6_ok {w : Wd} {l : Launch} {G : Cx} {d m dd : Dt} {o v1 v2 v3 : Int} {r : Int} {x : Int} (F : Fx w G cX8_isOneList RX8 4 (some .boolean) { frames := 1, cells := 0, slots := 0, locals := 22 }) (hX : WF dd m) (hp : PB m o 8) (h : fX8_isOneList_6 d o v1 v2 v3 = some x) (K : (fun q => q = r) x) : V w l WF G (QM w G WF (some (mI r)) d m 0 0) d m 0 0 6 [mA o, mI v1, mI v2, mI v3] [] := by
  unfold fX8_isOneList_6 at h
  exact loop_ok (P := fX8_isOneList_6P w l G (QM w G WF (some (mI r)) d m 0 0) m d o) (fun s x hx h1 h2 => fX8_isOneList_6f_ok F hX hp hx (by
    cases x with
    | inl s' => exact h1 s' rfl
    | inr z => cases h2 z rfl; exact K)) h
theorem vm_X8_isOneList {w : Wd} {l : Launch} {d m : Dt} {o : Int} {r : Int} (hp : PB m o 8) (h : fX8_isOneList d o = some r) : VM w l WF yX8_isOneList cX8_isOneList 4 (some .boolean) 1 22 0 0 d m [mA o] (some (mI r)) d m := by
  obtain ⟨x, h, K⟩ : ∃ x, fX8_isOneList d o = some x ∧ x = r := ⟨_, h, rfl⟩
  refine VM.of (L := [mA o, mU, mU, mU]) (by decide +kernel) rfl (Nat.le_of_ble_eq_true rfl) fun G F _ => v_fact fun _ hX _ _ => ?_
  unfold fX8_isOneList at h
  refine v_iconst F dX8_isOneList_0 ⟨by decide, by decide⟩ ?_
  refine v_istore_n F dX8_isOneList_1 rfl (Nat.le_of_ble_eq_true rfl) (L' := [mA o, mI (-1), mU, mU]) rfl ?_
  refine v_iconst F dX8_isOneList_2 ⟨by decide, by decide⟩ ?_
  refine v_istore_n F dX8_isOneList_3 rfl (Nat.le_of_ble_eq_true rfl) (L' := [mA o, mI (-1), mI 1, mU]) rfl ?_
  refine v_iconst F dX8_isOneList_4 ⟨by decide, by decide⟩ ?_
  refine v_istore_n F dX8_isOneList_5 rfl (Nat.le_of_ble_eq_true rfl) (L' := [mA o, mI (-1), mI 1, mI 0]) rfl ?_
  exact fX8_isOneList_6_ok F hX hp h K
theorem fX8_isSpoiled_108_ok {w : Wd} {l : Launch} {G : Cx} {d m dd : Dt} {o a1 : Int} {d' : Dt} {r : Int} {x : (Dt × Int)} (F : Fx w G cX8_isSpoiled RX8 2 (some .boolean) { frames := 2, cells := 0, slots := 0, locals := 45 }) (hX : WF dd m) (hp : PB m o 8) (h : fX8_isSpoiled_108 d o a1 = some x) (K : (fun q => q = (d', r)) x) : V w l WF G (QM w G WF (some (mI r)) d' m 0 0) d m 0 0 108 [mA o, mU] [] := by
  unfold fX8_isSpoiled_108 at h
  refine v_aload_n F dX8_isSpoiled_108 rfl rfl ?_
  refine v_aload_n F dX8_isSpoiled_109 rfl rfl ?_
  refine gf_X8_26 F dX8_isSpoiled_110 hp (v := (o + 64)) rfl ?_
  refine v_aload_n F dX8_isSpoiled_113 rfl rfl ?_
  refine gf_X8_155 F dX8_isSpoiled_114 hp ?_
  obtain ⟨x16, ex16, h⟩ := lv_some h
  refine v_nI ex16 ?_
  obtain ⟨hi17, h⟩ := ck_some h
  refine v_aaldF (c := 8) (k := 11) F dX8_isSpoiled_117 hp (Nat.le_of_ble_eq_true rfl) (Nat.le_of_ble_eq_true rfl) (by decide) (by decide) rfl (ar_X8_11 hX hp) (Nat.le_of_ble_eq_true rfl) rfl rfl rfl rfl hi17 (v := ((o + 65) + x16)) (by show o + 65 + 1 * x16 = _; omega) ?_
  obtain ⟨d18, x20, hc19, h⟩ := b2_some h
  refine v_callVv (c := 8) F dX8_isSpoiled_118 cv_X8_187 rfl (PB.ob hp hX (Nat.le_of_ble_eq_true rfl)) (Nat.le_of_ble_eq_true rfl) rfl (vm_X8_rank hp (ae_X8_11 (i := x16) hX hp hi17 (v := ((o + 65) + x16)) (by omega)) hc19) rfl (rOk.of rfl) ?_
  refine v_if_ne F dX8_isSpoiled_121 rfl (fun hq21 => ?_) (fun hq21 => ?_)
  · rw [if_neg hq21] at h
    refine v_iconst F dX8_isSpoiled_128 ⟨by decide, by decide⟩ ?_
    cases h
    cases (show _ = (d', r) from K)
    exact v_zret F (Or.inl rfl) dX8_isSpoiled_129
  · rw [if_pos hq21] at h
    refine v_iconst F dX8_isSpoiled_124 ⟨by decide, by decide⟩ ?_
    refine v_goto F dX8_isSpoiled_125 rfl ?_
    cases h
    cases (show _ = (d', r) from K)
    exact v_zret F (Or.inr rfl) dX8_isSpoiled_129
theorem vm_X8_isSpoiled {w : Wd} {l : Launch} {d m : Dt} {o a1 : Int} {d' : Dt} {r : Int} (hp : PB m o 8) (h : fX8_isSpoiled d o a1 = some (d', r)) : VM w l WF yX8_isSpoiled cX8_isSpoiled 2 (some .boolean) 2 45 0 0 d m [mA o, mI a1] (some (mI r)) d' m := by
  obtain ⟨x, h, K⟩ : ∃ x, fX8_isSpoiled d o a1 = some x ∧ x = (d', r) := ⟨_, h, rfl⟩
  refine VM.of (L := [mA o, mI a1]) (by decide +kernel) rfl (Nat.le_of_ble_eq_true rfl) fun G F _ => v_fact fun _ hX _ _ => ?_
  unfold fX8_isSpoiled at h
  refine v_aload_n F dX8_isSpoiled_0 rfl rfl ?_
  obtain ⟨x1, ex1, h⟩ := lv_some h
  obtain ⟨hn3, h⟩ := ck_some h
  refine gf_X8_131 F dX8_isSpoiled_1 hp ex1 fun hr2 => ?_
  have x1p := hr2.resolve_left hn3
  refine gf_X8_180 F dX8_isSpoiled_4 x1p ?_
  obtain ⟨x4, ex4, h⟩ := lv_some h
  refine v_nI ex4 ?_
  by_cases hq5 : x4 = 0
  · rw [if_pos hq5] at h
    refine v_tableIn F dX8_isSpoiled_7 hq5 (by decide) (by decide) rfl rfl ?_
    refine v_iload_n F dX8_isSpoiled_80 rfl rfl ?_
    refine v_iconst F dX8_isSpoiled_81 ⟨by decide, by decide⟩ ?_
    refine v_icmp_le F dX8_isSpoiled_82 rfl (fun hq6 => ?_) (fun hq6 => ?_)
    · rw [if_pos hq6] at h
      refine v_iconst F dX8_isSpoiled_89 ⟨by decide, by decide⟩ ?_
      cases h
      cases (show _ = (d', r) from K)
      exact v_zret F (Or.inl rfl) dX8_isSpoiled_90
    · rw [if_neg hq6] at h
      refine v_iconst F dX8_isSpoiled_85 ⟨by decide, by decide⟩ ?_
      refine v_goto F dX8_isSpoiled_86 rfl ?_
      cases h
      cases (show _ = (d', r) from K)
      exact v_zret F (Or.inr rfl) dX8_isSpoiled_90
  · rw [if_neg hq5] at h
    by_cases hq7 : x4 = 1
    · rw [if_pos hq7] at h
      refine v_tableIn F dX8_isSpoiled_7 hq7 (by decide) (by decide) rfl rfl ?_
      refine v_iload_n F dX8_isSpoiled_91 rfl rfl ?_
      refine v_aload_n F dX8_isSpoiled_92 rfl rfl ?_
      obtain ⟨x8, ex8, h⟩ := lv_some h
      obtain ⟨hn10, h⟩ := ck_some h
      refine gf_X8_131 F dX8_isSpoiled_93 hp ex8 fun hr9 => ?_
      have x8p := hr9.resolve_left hn10
      refine gf_X8_185 F dX8_isSpoiled_96 x8p ?_
      refine v_icmp_le F dX8_isSpoiled_99 rfl (fun hq11 => ?_) (fun hq11 => ?_)
      · rw [if_pos hq11] at h
        refine v_iconst F dX8_isSpoiled_106 ⟨by decide, by decide⟩ ?_
        cases h
        cases (show _ = (d', r) from K)
        exact v_zret F (Or.inl rfl) dX8_isSpoiled_107
      · rw [if_neg hq11] at h
        refine v_iconst F dX8_isSpoiled_102 ⟨by decide, by decide⟩ ?_
        refine v_goto F dX8_isSpoiled_103 rfl ?_
        cases h
        cases (show _ = (d', r) from K)
        exact v_zret F (Or.inr rfl) dX8_isSpoiled_107
    · rw [if_neg hq7] at h
      by_cases hq12 : x4 = 2
      · rw [if_pos hq12] at h
        refine v_tableIn F dX8_isSpoiled_7 hq12 (by decide) (by decide) rfl rfl ?_
        refine v_iconst F dX8_isSpoiled_143 ⟨by decide, by decide⟩ ?_
        cases h
        cases (show _ = (d', r) from K)
        exact v_zret F (Or.inl rfl) dX8_isSpoiled_144
      · rw [if_neg hq12] at h
        by_cases hq13 : x4 = 3
        · rw [if_pos hq13] at h
          refine v_tableIn F dX8_isSpoiled_7 hq13 (by decide) (by decide) rfl rfl ?_
          refine v_iconst F dX8_isSpoiled_143 ⟨by decide, by decide⟩ ?_
          cases h
          cases (show _ = (d', r) from K)
          exact v_zret F (Or.inl rfl) dX8_isSpoiled_144
        · rw [if_neg hq13] at h
          by_cases hq14 : x4 = 4
          · rw [if_pos hq14] at h
            refine v_tableIn F dX8_isSpoiled_7 hq14 (by decide) (by decide) rfl rfl ?_
            refine v_iconst F dX8_isSpoiled_143 ⟨by decide, by decide⟩ ?_
            cases h
            cases (show _ = (d', r) from K)
            exact v_zret F (Or.inl rfl) dX8_isSpoiled_144
          · rw [if_neg hq14] at h
            by_cases hq15 : x4 = 5
            · rw [if_pos hq15] at h
              refine v_tableIn F dX8_isSpoiled_7 hq15 (by decide) (by decide) rfl rfl ?_
              refine v_fgt (L' := [mA o, mU]) ⟨Or.inl rfl, Or.inr rfl, trivial⟩ ?_
              exact fX8_isSpoiled_108_ok F hX hp h K
            · rw [if_neg hq15] at h
              by_cases hq22 : x4 = 6
              · rw [if_pos hq22] at h
                refine v_tableIn F dX8_isSpoiled_7 hq22 (by decide) (by decide) rfl rfl ?_
                refine v_fgt (L' := [mA o, mU]) ⟨Or.inl rfl, Or.inr rfl, trivial⟩ ?_
                exact fX8_isSpoiled_108_ok F hX hp h K
              · rw [if_neg hq22] at h
                by_cases hq23 : x4 = 7
                · rw [if_pos hq23] at h
                  refine v_tableIn F dX8_isSpoiled_7 hq23 (by decide) (by decide) rfl rfl ?_
                  refine v_iconst F dX8_isSpoiled_143 ⟨by decide, by decide⟩ ?_
                  cases h
                  cases (show _ = (d', r) from K)
                  exact v_zret F (Or.inl rfl) dX8_isSpoiled_144
                · rw [if_neg hq23] at h
                  by_cases hq24 : x4 = 8
                  · rw [if_pos hq24] at h
                    refine v_tableIn F dX8_isSpoiled_7 hq24 (by decide) (by decide) rfl rfl ?_
                    refine v_iconst F dX8_isSpoiled_143 ⟨by decide, by decide⟩ ?_
                    cases h
                    cases (show _ = (d', r) from K)
                    exact v_zret F (Or.inl rfl) dX8_isSpoiled_144
                  · rw [if_neg hq24] at h
                    by_cases hq25 : x4 = 9
                    · rw [if_pos hq25] at h
                      refine v_tableIn F dX8_isSpoiled_7 hq25 (by decide) (by decide) rfl rfl ?_
                      refine v_iconst F dX8_isSpoiled_143 ⟨by decide, by decide⟩ ?_
                      cases h
                      cases (show _ = (d', r) from K)
                      exact v_zret F (Or.inl rfl) dX8_isSpoiled_144
                    · rw [if_neg hq25] at h
                      by_cases hq26 : x4 = 10
                      · rw [if_pos hq26] at h
                        refine v_tableIn F dX8_isSpoiled_7 hq26 (by decide) (by decide) rfl rfl ?_
                        refine v_iconst F dX8_isSpoiled_143 ⟨by decide, by decide⟩ ?_
                        cases h
                        cases (show _ = (d', r) from K)
                        exact v_zret F (Or.inl rfl) dX8_isSpoiled_144
                      · rw [if_neg hq26] at h
                        by_cases hq27 : x4 = 11
                        · rw [if_pos hq27] at h
                          refine v_tableIn F dX8_isSpoiled_7 hq27 (by decide) (by decide) rfl rfl ?_
                          refine v_fgt (L' := [mA o, mU]) ⟨Or.inl rfl, Or.inr rfl, trivial⟩ ?_
                          exact fX8_isSpoiled_108_ok F hX hp h K
                        · rw [if_neg hq27] at h
                          by_cases hq28 : x4 = 12
                          · rw [if_pos hq28] at h
                            refine v_tableIn F dX8_isSpoiled_7 hq28 (by decide) (by decide) rfl rfl ?_
                            refine v_fgt (L' := [mA o, mU]) ⟨Or.inl rfl, Or.inr rfl, trivial⟩ ?_
                            exact fX8_isSpoiled_108_ok F hX hp h K
                          · rw [if_neg hq28] at h
                            by_cases hq29 : x4 = 13
                            · rw [if_pos hq29] at h
                              refine v_tableIn F dX8_isSpoiled_7 hq29 (by decide) (by decide) rfl rfl ?_
                              refine v_fgt (L' := [mA o, mU]) ⟨Or.inl rfl, Or.inr rfl, trivial⟩ ?_
                              exact fX8_isSpoiled_108_ok F hX hp h K
                            · rw [if_neg hq29] at h
                              by_cases hq30 : x4 = 14
                              · rw [if_pos hq30] at h
                                refine v_tableIn F dX8_isSpoiled_7 hq30 (by decide) (by decide) rfl rfl ?_
                                refine v_aload_n F dX8_isSpoiled_130 rfl rfl ?_
                                obtain ⟨x31, hc32, h⟩ := b1_some h
                                refine v_callVv (c := 8) F dX8_isSpoiled_131 cv_X8_191 rfl (PB.ob hp hX (Nat.le_of_ble_eq_true rfl)) (Nat.le_of_ble_eq_true rfl) rfl (vm_X8_isOneList hp hc32) rfl (rOk.of rfl) ?_
                                refine v_if_ne F dX8_isSpoiled_134 rfl (fun hq33 => ?_) (fun hq33 => ?_)
                                · rw [if_neg hq33] at h
                                  refine v_iconst F dX8_isSpoiled_141 ⟨by decide, by decide⟩ ?_
                                  cases h
                                  cases (show _ = (d', r) from K)
                                  exact v_zret F (Or.inl rfl) dX8_isSpoiled_142
                                · rw [if_pos hq33] at h
                                  refine v_iconst F dX8_isSpoiled_137 ⟨by decide, by decide⟩ ?_
                                  refine v_goto F dX8_isSpoiled_138 rfl ?_
                                  cases h
                                  cases (show _ = (d', r) from K)
                                  exact v_zret F (Or.inr rfl) dX8_isSpoiled_142
                              · rw [if_neg hq30] at h
                                refine v_tableOut F dX8_isSpoiled_7 (by omega) rfl ?_
                                refine v_iconst F dX8_isSpoiled_143 ⟨by decide, by decide⟩ ?_
                                cases h
                                cases (show _ = (d', r) from K)
                                exact v_zret F (Or.inl rfl) dX8_isSpoiled_144
def fX8_isLess_2P (w : Wd) (l : Launch) (G : Cx) (Q : State → Prop) (m : Dt) (d : Dt) (o a1 a2 : Int) (s : Int) : Prop := V w l WF G Q d m 0 0 2 [mA o, mA a1, mA a2, mI (s)] []
theorem fX8_isLess_2f_ok {w : Wd} {l : Launch} {G : Cx} {d m dd : Dt} {o a1 a2 : Int} {r : Int} {s : Int} {x : ((Int) ⊕ Int)} (F : Fx w G cX8_isLess RX8 4 (some .boolean) { frames := 0, cells := 0, slots := 0, locals := 0 }) (hX : WF dd m) (hp : PB m o 8) (hp1 : AR m a1 102 9) (hp2 : AR m a2 102 9) (h : fX8_isLess_2f d o a1 a2 s = some x) (K : (Sum.elim (fX8_isLess_2P w l G (QM w G WF (some (mI r)) d m 0 0) m d o a1 a2) (fun q => q = r)) x) : V w l WF G (QM w G WF (some (mI r)) d m 0 0) d m 0 0 2 [mA o, mA a1, mA a2, mI (s)] [] := by
  obtain ⟨v3, rfl⟩ : ∃ z, z = s := ⟨s, rfl⟩
  unfold fX8_isLess_2f at h
  dsimp only at h
  refine v_iload_n F dX8_isLess_2 rfl rfl ?_
  refine v_aload_n F dX8_isLess_3 rfl rfl ?_
  refine gf_X8_148 F dX8_isLess_4 hp ?_
  refine v_icmp_ge F dX8_isLess_7 rfl (fun hq1 => ?_) (fun hq1 => ?_)
  · rw [if_pos hq1] at h
    obtain ⟨z, hu, ez⟩ := up_some h
    clear h
    subst ez
    have h := hu
    clear hu
    refine v_iconst F dX8_isLess_40 ⟨by decide, by decide⟩ ?_
    cases h
    cases (show _ = r from K)
    exact v_zret F (Or.inl rfl) dX8_isLess_41
  · rw [if_neg hq1] at h
    refine v_aload_n F dX8_isLess_10 rfl rfl ?_
    refine v_iload_n F dX8_isLess_11 rfl rfl ?_
    obtain ⟨hi2, h⟩ := ck_some h
    refine v_bald F dX8_isLess_12 hp1 hi2 ?_
    refine v_aload_n F dX8_isLess_13 rfl rfl ?_
    refine v_iload_n F dX8_isLess_14 rfl rfl ?_
    refine v_bald F dX8_isLess_15 hp2 hi2 ?_
    refine v_icmp_eq F dX8_isLess_16 rfl (fun hq3 => ?_) (fun hq3 => ?_)
    · rw [if_pos hq3] at h
      obtain ⟨x4, ex4, h⟩ := lv_some h
      refine v_iincN F dX8_isLess_34 (Nat.le_of_ble_eq_true rfl) rfl ex4 (L' := [mA o, mA a1, mA a2, mI x4]) rfl ?_
      refine v_goto F dX8_isLess_37 rfl ?_
      cases h
      exact K
    · rw [if_neg hq3] at h
      obtain ⟨z, hu, ez⟩ := up_some h
      clear h
      subst ez
      have h := hu
      clear hu
      refine v_aload_n F dX8_isLess_19 rfl rfl ?_
      refine v_iload_n F dX8_isLess_20 rfl rfl ?_
      refine v_bald F dX8_isLess_21 hp1 hi2 ?_
      refine v_aload_n F dX8_isLess_22 rfl rfl ?_
      refine v_iload_n F dX8_isLess_23 rfl rfl ?_
      refine v_bald F dX8_isLess_24 hp2 hi2 ?_
      refine v_icmp_ge F dX8_isLess_25 rfl (fun hq5 => ?_) (fun hq5 => ?_)
      · rw [if_pos hq5] at h
        refine v_iconst F dX8_isLess_32 ⟨by decide, by decide⟩ ?_
        cases h
        cases (show _ = r from K)
        exact v_zret F (Or.inl rfl) dX8_isLess_33
      · rw [if_neg hq5] at h
        refine v_iconst F dX8_isLess_28 ⟨by decide, by decide⟩ ?_
        refine v_goto F dX8_isLess_29 rfl ?_
        cases h
        cases (show _ = r from K)
        exact v_zret F (Or.inr rfl) dX8_isLess_33
theorem fX8_isLess_2_ok {w : Wd} {l : Launch} {G : Cx} {d m dd : Dt} {o a1 a2 v3 : Int} {r : Int} {x : Int} (F : Fx w G cX8_isLess RX8 4 (some .boolean) { frames := 0, cells := 0, slots := 0, locals := 0 }) (hX : WF dd m) (hp : PB m o 8) (hp1 : AR m a1 102 9) (hp2 : AR m a2 102 9) (h : fX8_isLess_2 d o a1 a2 v3 = some x) (K : (fun q => q = r) x) : V w l WF G (QM w G WF (some (mI r)) d m 0 0) d m 0 0 2 [mA o, mA a1, mA a2, mI v3] [] := by
  unfold fX8_isLess_2 at h
  exact loop_ok (P := fX8_isLess_2P w l G (QM w G WF (some (mI r)) d m 0 0) m d o a1 a2) (fun s x hx h1 h2 => fX8_isLess_2f_ok F hX hp hp1 hp2 hx (by
    cases x with
    | inl s' => exact h1 s' rfl
    | inr z => cases h2 z rfl; exact K)) h
theorem vm_X8_isLess {w : Wd} {l : Launch} {d m : Dt} {o a1 a2 : Int} {r : Int} (hp : PB m o 8) (hp1 : AR m a1 102 9) (hp2 : AR m a2 102 9) (h : fX8_isLess d o a1 a2 = some r) : VM w l WF yX8_isLess cX8_isLess 4 (some .boolean) 0 0 0 0 d m [mA o, mA a1, mA a2] (some (mI r)) d m := by
  obtain ⟨x, h, K⟩ : ∃ x, fX8_isLess d o a1 a2 = some x ∧ x = r := ⟨_, h, rfl⟩
  refine VM.of (L := [mA o, mA a1, mA a2, mU]) (by decide +kernel) rfl (Nat.le_of_ble_eq_true rfl) fun G F _ => v_fact fun _ hX _ _ => ?_
  unfold fX8_isLess at h
  refine v_iconst F dX8_isLess_0 ⟨by decide, by decide⟩ ?_
  refine v_istore_n F dX8_isLess_1 rfl (Nat.le_of_ble_eq_true rfl) (L' := [mA o, mA a1, mA a2, mI 0]) rfl ?_
  exact fX8_isLess_2_ok F hX hp hp1 hp2 h K
def fX8_insert_5P (w : Wd) (l : Launch) (G : Cx) (Q : State → Prop) (m : Dt) (o : Int) (s : Dt × Int) : Prop := V w l WF G Q s.1 m 0 0 5 [mA o, mI (s.2)] []
theorem fX8_insert_55_ok {w : Wd} {l : Launch} {G : Cx} {d m dd : Dt} {o v1 : Int} {d' : Dt} {x : Dt} (F : Fx w G cX8_insert RX8 2 none { frames := 1, cells := 0, slots := 0, locals := 40 }) (hX : WF dd m) (hp : PB m o 8) (h : fX8_insert_55 d o v1 = some x) (K : (fun q => q = d') x) : V w l WF G (QM w G WF none d' m 0 0) d m 0 0 55 [mA o, mI v1] [] := by
  unfold fX8_insert_55 at h
  refine v_aload_n F dX8_insert_55 rfl rfl ?_
  refine gf_X8_20 F dX8_insert_56 hp (v := (o + 63)) rfl ?_
  refine v_iconst F dX8_insert_59 ⟨by decide, by decide⟩ ?_
  refine v_aload_n F dX8_insert_60 rfl rfl ?_
  refine gf_X8_17 F dX8_insert_61 hp (v := (o + 2)) rfl ?_
  refine v_iload_n F dX8_insert_64 rfl rfl ?_
  obtain ⟨hi3, h⟩ := ck_some h
  refine v_aaldF (c := 8) (k := 6) F dX8_insert_65 hp (Nat.le_of_ble_eq_true rfl) (Nat.le_of_ble_eq_true rfl) (by decide) (by decide) rfl (ar_X8_6 hX hp) (Nat.le_of_ble_eq_true rfl) rfl rfl rfl rfl hi3 (v := ((o + 3) + v1)) (by show o + 3 + 1 * v1 = _; omega) ?_
  refine v_iconst F dX8_insert_66 ⟨by decide, by decide⟩ ?_
  refine v_bipush F dX8_insert_67 rfl ⟨by decide, by decide⟩ ?_
  obtain ⟨d4, ed4, h⟩ := cd_some h
  refine v_copy (t := 102) F dX8_insert_69 ca_X8_203 (ar_X8_7 hX hp) (ae_X8_6 (i := v1) hX hp hi3 (v := ((o + 3) + v1)) (by omega)) (Nat.le_of_ble_eq_true rfl) (Or.inr (Or.inl rfl)) rfl rfl ⟨by decide, by decide, by decide, by decide, by decide⟩ rfl ?_
  refine v_nD ed4 ?_
  refine v_aload_n F dX8_insert_72 rfl rfl ?_
  refine v_dup_A F dX8_insert_73 ?_
  refine gf_X8_155 F dX8_insert_74 hp ?_
  refine v_iconst F dX8_insert_77 ⟨by decide, by decide⟩ ?_
  refine v_iadd F dX8_insert_78 ?_
  obtain ⟨d5, ed5, h⟩ := sd_some h
  refine pf_X8_155 F dX8_insert_79 hp ?_
  refine v_nD ed5 ?_
  cases h
  cases (show _ = d' from K)
  exact v_vret F dX8_insert_82
theorem fX8_insert_5f_ok {w : Wd} {l : Launch} {G : Cx} {m dd : Dt} {o : Int} {d' : Dt} {s : Dt × Int} {x : ((Dt × Int) ⊕ Dt)} (F : Fx w G cX8_insert RX8 2 none { frames := 1, cells := 0, slots := 0, locals := 40 }) (hX : WF dd m) (hp : PB m o 8) (h : fX8_insert_5f o s = some x) (K : (Sum.elim (fX8_insert_5P w l G (QM w G WF none d' m 0 0) m o) (fun q => q = d')) x) : V w l WF G (QM w G WF none d' m 0 0) s.1 m 0 0 5 [mA o, mI (s.2)] [] := by
  obtain ⟨d, v1⟩ := s
  unfold fX8_insert_5f at h
  dsimp only at h
  refine v_iload_n F dX8_insert_5 rfl rfl ?_
  refine v_if_le F dX8_insert_6 rfl (fun hq2 => ?_) (fun hq2 => ?_)
  · rw [if_pos hq2] at h
    obtain ⟨z, hu, ez⟩ := up_some h
    clear h
    subst ez
    have h := hu
    clear hu
    exact fX8_insert_55_ok F hX hp h K
  · rw [if_neg hq2] at h
    refine v_aload_n F dX8_insert_9 rfl rfl ?_
    refine v_aload_n F dX8_insert_10 rfl rfl ?_
    refine gf_X8_20 F dX8_insert_11 hp (v := (o + 63)) rfl ?_
    refine v_aload_n F dX8_insert_14 rfl rfl ?_
    refine gf_X8_17 F dX8_insert_15 hp (v := (o + 2)) rfl ?_
    refine v_iload_n F dX8_insert_18 rfl rfl ?_
    refine v_iconst F dX8_insert_19 ⟨by decide, by decide⟩ ?_
    refine v_isub F dX8_insert_20 ?_
    obtain ⟨x6, ex6, h⟩ := lv_some h
    refine v_nI ex6 ?_
    obtain ⟨hi7, h⟩ := ck_some h
    refine v_aaldF (c := 8) (k := 6) F dX8_insert_21 hp (Nat.le_of_ble_eq_true rfl) (Nat.le_of_ble_eq_true rfl) (by decide) (by decide) rfl (ar_X8_6 hX hp) (Nat.le_of_ble_eq_true rfl) rfl rfl rfl rfl hi7 (v := ((o + 3) + x6)) (by show o + 3 + 1 * x6 = _; omega) ?_
    obtain ⟨x8, hc9, h⟩ := b1_some h
    refine v_callVv (c := 8) F dX8_insert_22 cv_X8_199 rfl (PB.ob hp hX (Nat.le_of_ble_eq_true rfl)) (Nat.le_of_ble_eq_true rfl) rfl (vm_X8_isLess hp (ar_X8_7 hX hp) (ae_X8_6 (i := x6) hX hp hi7 (v := ((o + 3) + x6)) (by omega)) hc9) rfl (rOk.of rfl) ?_
    refine v_if_eq F dX8_insert_25 rfl (fun hq10 => ?_) (fun hq10 => ?_)
    · rw [if_pos hq10] at h
      obtain ⟨z, hu, ez⟩ := up_some h
      clear h
      subst ez
      have h := hu
      clear hu
      exact fX8_insert_55_ok F hX hp h K
    · rw [if_neg hq10] at h
      refine v_aload_n F dX8_insert_28 rfl rfl ?_
      refine gf_X8_17 F dX8_insert_29 hp (v := (o + 2)) rfl ?_
      refine v_iload_n F dX8_insert_32 rfl rfl ?_
      refine v_iconst F dX8_insert_33 ⟨by decide, by decide⟩ ?_
      refine v_isub F dX8_insert_34 ?_
      obtain ⟨x11, ex11, h⟩ := lv_some h
      refine v_nI ex11 ?_
      obtain ⟨hi12, h⟩ := ck_some h
      refine v_aaldF (c := 8) (k := 6) F dX8_insert_35 hp (Nat.le_of_ble_eq_true rfl) (Nat.le_of_ble_eq_true rfl) (by decide) (by decide) rfl (ar_X8_6 hX hp) (Nat.le_of_ble_eq_true rfl) rfl rfl rfl rfl hi12 (v := ((o + 3) + x11)) (by show o + 3 + 1 * x11 = _; omega) ?_
      refine v_iconst F dX8_insert_36 ⟨by decide, by decide⟩ ?_
      refine v_aload_n F dX8_insert_37 rfl rfl ?_
      refine gf_X8_17 F dX8_insert_38 hp (v := (o + 2)) rfl ?_
      refine v_iload_n F dX8_insert_41 rfl rfl ?_
      obtain ⟨hi13, h⟩ := ck_some h
      refine v_aaldF (c := 8) (k := 6) F dX8_insert_42 hp (Nat.le_of_ble_eq_true rfl) (Nat.le_of_ble_eq_true rfl) (by decide) (by decide) rfl (ar_X8_6 hX hp) (Nat.le_of_ble_eq_true rfl) rfl rfl rfl rfl hi13 (v := ((o + 3) + v1)) (by show o + 3 + 1 * v1 = _; omega) ?_
      refine v_iconst F dX8_insert_43 ⟨by decide, by decide⟩ ?_
      refine v_bipush F dX8_insert_44 rfl ⟨by decide, by decide⟩ ?_
      obtain ⟨d14, ed14, h⟩ := cd_some h
      refine v_copy (t := 102) F dX8_insert_46 ca_X8_203 (ae_X8_6 (i := x11) hX hp hi12 (v := ((o + 3) + x11)) (by omega)) (ae_X8_6 (i := v1) hX hp hi13 (v := ((o + 3) + v1)) (by omega)) (Nat.le_of_ble_eq_true rfl) (Or.inr (Or.inl rfl)) rfl rfl ⟨by decide, by decide, by decide, by decide, by decide⟩ rfl ?_
      refine v_nD ed14 ?_
      obtain ⟨x15, ex15, h⟩ := lv_some h
      refine v_iincN F dX8_insert_49 (Nat.le_of_ble_eq_true rfl) rfl ex15 (L' := [mA o, mI x15]) rfl ?_
      refine v_goto F dX8_insert_52 rfl ?_
      cases h
      exact K
theorem fX8_insert_5_ok {w : Wd} {l : Launch} {G : Cx} {d m dd : Dt} {o v1 : Int} {d' : Dt} {x : Dt} (F : Fx w G cX8_insert RX8 2 none { frames := 1, cells := 0, slots := 0, locals := 40 }) (hX : WF dd m) (hp : PB m o 8) (h : fX8_insert_5 d o v1 = some x) (K : (fun q => q = d') x) : V w l WF G (QM w G WF none d' m 0 0) d m 0 0 5 [mA o, mI v1] [] := by
  unfold fX8_insert_5 at h
  exact loop_ok (P := fX8_insert_5P w l G (QM w G WF none d' m 0 0) m o) (fun s x hx h1 h2 => fX8_insert_5f_ok F hX hp hx (by
    cases x with
    | inl s' => exact h1 s' rfl
    | inr z => cases h2 z rfl; exact K)) h
theorem vm_X8_insert {w : Wd} {l : Launch} {d m : Dt} {o : Int} {d' : Dt} (hp : PB m o 8) (h : fX8_insert d o = some d') : VM w l WF yX8_insert cX8_insert 2 none 1 40 0 0 d m [mA o] none d' m := by
  obtain ⟨x, h, K⟩ : ∃ x, fX8_insert d o = some x ∧ x = d' := ⟨_, h, rfl⟩
  refine VM.of (L := [mA o, mU]) (by decide +kernel) rfl (Nat.le_of_ble_eq_true rfl) fun G F _ => v_fact fun _ hX _ _ => ?_
  unfold fX8_insert at h
  refine v_aload_n F dX8_insert_0 rfl rfl ?_
  refine gf_X8_155 F dX8_insert_1 hp ?_
  obtain ⟨x1, ex1, h⟩ := lv_some h
  refine v_nI ex1 ?_
  refine v_istore_n F dX8_insert_4 rfl (Nat.le_of_ble_eq_true rfl) (L' := [mA o, mI x1]) rfl ?_
  exact fX8_insert_5_ok F hX hp h K
def fX8_add_5P (w : Wd) (l : Launch) (G : Cx) (Q : State → Prop) (m : Dt) (o a1 a2 : Int) (s : Dt × Int × Int) : Prop := V w l WF G Q s.1 m 0 0 5 [mA o, mA a1, mI a2, mI (s.2.1), mI (s.2.2)] []
theorem fX8_add_57_ok {w : Wd} {l : Launch} {G : Cx} {d m dd : Dt} {o a1 a2 v4 s0 s1 : Int} {d' : Dt} {x : ((Dt × Int × Int) ⊕ Dt)} (F : Fx w G cX8_add RX8 5 none { frames := 3, cells := 0, slots := 0, locals := 66 }) (hX : WF dd m) (hp : PB m o 8) (hp1 : AR m a1 102 54) (h : fX8_add_57 d o a1 a2 v4 s0 s1 = some x) (K : (Sum.elim (fX8_add_5P w l G (QM w G WF none d' m 0 0) m o a1 a2) (fun q => q = d')) x) : V w l WF G (QM w G WF none d' m 0 0) d m 0 0 57 [mA o, mA a1, mI a2, mU, mI v4] [mI s1, mI s0] := by
  unfold fX8_add_57 at h
  refine v_iadd F dX8_add_57 ?_
  obtain ⟨x17, ex17, h⟩ := lv_some h
  refine v_nI ex17 ?_
  refine v_istore_n F dX8_add_58 rfl (Nat.le_of_ble_eq_true rfl) (L' := [mA o, mA a1, mI a2, mI x17, mI v4]) rfl ?_
  obtain ⟨x18, ex18, h⟩ := lv_some h
  refine v_iincN F dX8_add_59 (Nat.le_of_ble_eq_true rfl) rfl ex18 (L' := [mA o, mA a1, mI a2, mI x17, mI x18]) rfl ?_
  refine v_goto F dX8_add_62 rfl ?_
  cases h
  exact K
theorem fX8_add_40_ok {w : Wd} {l : Launch} {G : Cx} {d m dd : Dt} {o a1 a2 v3 v4 s1 s2 : Int} {d' : Dt} {x : ((Dt × Int × Int) ⊕ Dt)} (F : Fx w G cX8_add RX8 5 none { frames := 3, cells := 0, slots := 0, locals := 66 }) (hX : WF dd m) (hp : PB m o 8) (hp1 : AR m a1 102 54) (h : fX8_add_40 d o a1 a2 v3 v4 s1 s2 = some x) (K : (Sum.elim (fX8_add_5P w l G (QM w G WF none d' m 0 0) m o a1 a2) (fun q => q = d')) x) : V w l WF G (QM w G WF none d' m 0 0) d m 0 0 40 [mA o, mA a1, mI a2, mI v3, mI v4] [mI s2, mI s1, mA (o + 63)] := by
  unfold fX8_add_40 at h
  obtain ⟨hi13, h⟩ := ck_some h
  obtain ⟨d14, ed14, h⟩ := sd_some h
  refine v_bast F dX8_add_40 (ar_X8_7 hX hp) hi13 ?_
  refine v_nD ed14 ?_
  refine v_iload_n F dX8_add_41 rfl rfl ?_
  refine v_aload_n F dX8_add_42 rfl rfl ?_
  refine gf_X8_20 F dX8_add_43 hp (v := (o + 63)) rfl ?_
  refine v_iload F dX8_add_46 rfl ?_
  obtain ⟨hi15, h⟩ := ck_some h
  refine v_bald F dX8_add_48 (ar_X8_7 hX hp) hi15 ?_
  refine v_if_le F dX8_add_49 rfl (fun hq16 => ?_) (fun hq16 => ?_)
  · rw [if_pos hq16] at h
    refine v_iconst F dX8_add_56 ⟨by decide, by decide⟩ ?_
    refine v_fgt (L' := [mA o, mA a1, mI a2, mU, mI v4]) ⟨Or.inl rfl, Or.inl rfl, Or.inl rfl, Or.inr rfl, Or.inl rfl, trivial⟩ ?_
    exact fX8_add_57_ok F hX hp hp1 h K
  · rw [if_neg hq16] at h
    refine v_iconst F dX8_add_52 ⟨by decide, by decide⟩ ?_
    refine v_goto F dX8_add_53 rfl ?_
    refine v_fgt (L' := [mA o, mA a1, mI a2, mU, mI v4]) ⟨Or.inl rfl, Or.inl rfl, Or.inl rfl, Or.inr rfl, Or.inl rfl, trivial⟩ ?_
    exact fX8_add_57_ok F hX hp hp1 h K
theorem fX8_add_5f_ok {w : Wd} {l : Launch} {G : Cx} {m dd : Dt} {o a1 a2 : Int} {d' : Dt} {s : Dt × Int × Int} {x : ((Dt × Int × Int) ⊕ Dt)} (F : Fx w G cX8_add RX8 5 none { frames := 3, cells := 0, slots := 0, locals := 66 }) (hX : WF dd m) (hp : PB m o 8) (hp1 : AR m a1 102 54) (h : fX8_add_5f o a1 a2 s = some x) (K : (Sum.elim (fX8_add_5P w l G (QM w G WF none d' m 0 0) m o a1 a2) (fun q => q = d')) x) : V w l WF G (QM w G WF none d' m 0 0) s.1 m 0 0 5 [mA o, mA a1, mI a2, mI (s.2.1), mI (s.2.2)] [] := by
  obtain ⟨d, v3, v4⟩ := s
  unfold fX8_add_5f at h
  dsimp only at h
  refine v_iload F dX8_add_5 rfl ?_
  refine v_aload_n F dX8_add_7 rfl rfl ?_
  refine gf_X8_148 F dX8_add_8 hp ?_
  refine v_icmp_ge F dX8_add_11 rfl (fun hq1 => ?_) (fun hq1 => ?_)
  · rw [if_pos hq1] at h
    obtain ⟨z, hu, ez⟩ := up_some h
    clear h
    subst ez
    have h := hu
    clear hu
    refine v_iload_n F dX8_add_65 rfl rfl ?_
    refine v_if_ne F dX8_add_66 rfl (fun hq2 => ?_) (fun hq2 => ?_)
    · rw [if_neg hq2] at h
      refine v_aload_n F dX8_add_82 rfl rfl ?_
      refine v_iload_n F dX8_add_83 rfl rfl ?_
      obtain ⟨d3, x5, hc4, h⟩ := b2_some h
      refine v_callVv (c := 8) F dX8_add_84 cv_X8_173 rfl (PB.ob hp hX (Nat.le_of_ble_eq_true rfl)) (Nat.le_of_ble_eq_true rfl) rfl (vm_X8_isSpoiled hp hc4) rfl (rOk.of rfl) ?_
      refine v_if_eq F dX8_add_87 rfl (fun hq6 => ?_) (fun hq6 => ?_)
      · rw [if_pos hq6] at h
        refine v_aload_n F dX8_add_103 rfl rfl ?_
        obtain ⟨d7, hc8, h⟩ := bd_some h
        refine v_callV0 (c := 8) F dX8_add_104 cv_X8_177 rfl (PB.ob hp hX (Nat.le_of_ble_eq_true rfl)) (Nat.le_of_ble_eq_true rfl) rfl (vm_X8_insert hp hc8) rfl (rOk.of rfl) ?_
        cases h
        cases (show _ = d' from K)
        exact v_vret F dX8_add_107
      · rw [if_neg hq6] at h
        refine v_aload_n F dX8_add_90 rfl rfl ?_
        refine v_dup_A F dX8_add_91 ?_
        refine gf_X8_161 F dX8_add_92 hp ?_
        refine v_iconst F dX8_add_95 ⟨by decide, by decide⟩ ?_
        refine v_iadd F dX8_add_96 ?_
        obtain ⟨d9, ed9, h⟩ := sd_some h
        refine pf_X8_161 F dX8_add_97 hp ?_
        refine v_nD ed9 ?_
        refine v_goto F dX8_add_100 rfl ?_
        cases h
        cases (show _ = d' from K)
        exact v_vret F dX8_add_107
    · rw [if_pos hq2] at h
      refine v_aload_n F dX8_add_69 rfl rfl ?_
      refine v_dup_A F dX8_add_70 ?_
      refine gf_X8_158 F dX8_add_71 hp ?_
      refine v_iconst F dX8_add_74 ⟨by decide, by decide⟩ ?_
      refine v_iadd F dX8_add_75 ?_
      obtain ⟨d10, ed10, h⟩ := sd_some h
      refine pf_X8_158 F dX8_add_76 hp ?_
      refine v_nD ed10 ?_
      refine v_goto F dX8_add_79 rfl ?_
      cases h
      cases (show _ = d' from K)
      exact v_vret F dX8_add_107
  · rw [if_neg hq1] at h
    refine v_aload_n F dX8_add_14 rfl rfl ?_
    refine gf_X8_20 F dX8_add_15 hp (v := (o + 63)) rfl ?_
    refine v_iload F dX8_add_18 rfl ?_
    refine v_aload_n F dX8_add_20 rfl rfl ?_
    refine gf_X8_9 F dX8_add_21 hp (v := (o + 1)) rfl ?_
    refine v_iload F dX8_add_24 rfl ?_
    obtain ⟨hi11, h⟩ := ck_some h
    refine v_zald F dX8_add_26 (ar_X8_4 hX hp) hi11 ?_
    refine v_if_eq F dX8_add_27 rfl (fun hq12 => ?_) (fun hq12 => ?_)
    · rw [if_pos hq12] at h
      refine v_iconst F dX8_add_39 ⟨by decide, by decide⟩ ?_
      exact fX8_add_40_ok F hX hp hp1 h K
    · rw [if_neg hq12] at h
      refine v_aload_n F dX8_add_30 rfl rfl ?_
      refine v_iload_n F dX8_add_31 rfl rfl ?_
      refine v_iload F dX8_add_32 rfl ?_
      refine v_iadd F dX8_add_34 ?_
      obtain ⟨x19, ex19, h⟩ := lv_some h
      refine v_nI ex19 ?_
      obtain ⟨hi20, h⟩ := ck_some h
      refine v_bald F dX8_add_35 hp1 hi20 ?_
      refine v_goto F dX8_add_36 rfl ?_
      exact fX8_add_40_ok F hX hp hp1 h K
theorem fX8_add_5_ok {w : Wd} {l : Launch} {G : Cx} {d m dd : Dt} {o a1 a2 v3 v4 : Int} {d' : Dt} {x : Dt} (F : Fx w G cX8_add RX8 5 none { frames := 3, cells := 0, slots := 0, locals := 66 }) (hX : WF dd m) (hp : PB m o 8) (hp1 : AR m a1 102 54) (h : fX8_add_5 d o a1 a2 v3 v4 = some x) (K : (fun q => q = d') x) : V w l WF G (QM w G WF none d' m 0 0) d m 0 0 5 [mA o, mA a1, mI a2, mI v3, mI v4] [] := by
  unfold fX8_add_5 at h
  exact loop_ok (P := fX8_add_5P w l G (QM w G WF none d' m 0 0) m o a1 a2) (fun s x hx h1 h2 => fX8_add_5f_ok F hX hp hp1 hx (by
    cases x with
    | inl s' => exact h1 s' rfl
    | inr z => cases h2 z rfl; exact K)) h
theorem vm_X8_add {w : Wd} {l : Launch} {d m : Dt} {o a1 a2 : Int} {d' : Dt} (hp : PB m o 8) (hp1 : AR m a1 102 54) (h : fX8_add d o a1 a2 = some d') : VM w l WF yX8_add cX8_add 5 none 3 66 0 0 d m [mA o, mA a1, mI a2] none d' m := by
  obtain ⟨x, h, K⟩ : ∃ x, fX8_add d o a1 a2 = some x ∧ x = d' := ⟨_, h, rfl⟩
  refine VM.of (L := [mA o, mA a1, mI a2, mU, mU]) (by decide +kernel) rfl (Nat.le_of_ble_eq_true rfl) fun G F _ => v_fact fun _ hX _ _ => ?_
  unfold fX8_add at h
  refine v_iconst F dX8_add_0 ⟨by decide, by decide⟩ ?_
  refine v_istore_n F dX8_add_1 rfl (Nat.le_of_ble_eq_true rfl) (L' := [mA o, mA a1, mI a2, mI 0, mU]) rfl ?_
  refine v_iconst F dX8_add_2 ⟨by decide, by decide⟩ ?_
  refine v_istore F dX8_add_3 (Nat.le_of_ble_eq_true rfl) (L' := [mA o, mA a1, mI a2, mI 0, mI 0]) rfl ?_
  exact fX8_add_5_ok F hX hp hp1 h K
def fX8_isList_2P (w : Wd) (l : Launch) (G : Cx) (Q : State → Prop) (m : Dt) (d : Dt) (o a1 : Int) (s : Int) : Prop := V w l WF G Q d m 0 0 2 [mA o, mI a1, mI (s)] []
theorem fX8_isList_2f_ok {w : Wd} {l : Launch} {G : Cx} {d m dd : Dt} {o a1 : Int} {r : Int} {s : Int} {x : ((Int) ⊕ Int)} (F : Fx w G cX8_isList RX8 3 (some .boolean) { frames := 0, cells := 0, slots := 0, locals := 0 }) (hX : WF dd m) (hp : PB m o 8) (h : fX8_isList_2f d o a1 s = some x) (K : (Sum.elim (fX8_isList_2P w l G (QM w G WF (some (mI r)) d m 0 0) m d o a1) (fun q => q = r)) x) : V w l WF G (QM w G WF (some (mI r)) d m 0 0) d m 0 0 2 [mA o, mI a1, mI (s)] [] := by
  obtain ⟨v2, rfl⟩ : ∃ z, z = s := ⟨s, rfl⟩
  unfold fX8_isList_2f at h
  dsimp only at h
  refine v_iload_n F dX8_isList_2 rfl rfl ?_
  refine v_aload_n F dX8_isList_3 rfl rfl ?_
  refine gf_X8_416 F dX8_isList_4 hp ?_
  refine v_icmp_ge F dX8_isList_7 rfl (fun hq1 => ?_) (fun hq1 => ?_)
  · rw [if_pos hq1] at h
    obtain ⟨z, hu, ez⟩ := up_some h
    clear h
    subst ez
    have h := hu
    clear hu
    refine v_iconst F dX8_isList_28 ⟨by decide, by decide⟩ ?_
    cases h
    cases (show _ = r from K)
    exact v_zret F (Or.inl rfl) dX8_isList_29
  · rw [if_neg hq1] at h
    refine v_aload_n F dX8_isList_10 rfl rfl ?_
    refine gf_X8_101 F dX8_isList_11 hp (v := (o + 232)) rfl ?_
    refine v_iload_n F dX8_isList_14 rfl rfl ?_
    obtain ⟨hi2, h⟩ := ck_some h
    refine v_iald F dX8_isList_15 (ar_X8_41 hX hp) hi2 ?_
    refine v_iload_n F dX8_isList_16 rfl rfl ?_
    refine v_icmp_ne F dX8_isList_17 rfl (fun hq3 => ?_) (fun hq3 => ?_)
    · rw [if_neg hq3] at h
      obtain ⟨x4, ex4, h⟩ := lv_some h
      refine v_iincN F dX8_isList_22 (Nat.le_of_ble_eq_true rfl) rfl ex4 (L' := [mA o, mI a1, mI x4]) rfl ?_
      refine v_goto F dX8_isList_25 rfl ?_
      cases h
      exact K
    · rw [if_pos hq3] at h
      obtain ⟨z, hu, ez⟩ := up_some h
      clear h
      subst ez
      have h := hu
      clear hu
      refine v_iconst F dX8_isList_20 ⟨by decide, by decide⟩ ?_
      cases h
      cases (show _ = r from K)
      exact v_zret F (Or.inr rfl) dX8_isList_21
theorem fX8_isList_2_ok {w : Wd} {l : Launch} {G : Cx} {d m dd : Dt} {o a1 v2 : Int} {r : Int} {x : Int} (F : Fx w G cX8_isList RX8 3 (some .boolean) { frames := 0, cells := 0, slots := 0, locals := 0 }) (hX : WF dd m) (hp : PB m o 8) (h : fX8_isList_2 d o a1 v2 = some x) (K : (fun q => q = r) x) : V w l WF G (QM w G WF (some (mI r)) d m 0 0) d m 0 0 2 [mA o, mI a1, mI v2] [] := by
  unfold fX8_isList_2 at h
  exact loop_ok (P := fX8_isList_2P w l G (QM w G WF (some (mI r)) d m 0 0) m d o a1) (fun s x hx h1 h2 => fX8_isList_2f_ok F hX hp hx (by
    cases x with
    | inl s' => exact h1 s' rfl
    | inr z => cases h2 z rfl; exact K)) h
theorem vm_X8_isList {w : Wd} {l : Launch} {d m : Dt} {o a1 : Int} {r : Int} (hp : PB m o 8) (h : fX8_isList d o a1 = some r) : VM w l WF yX8_isList cX8_isList 3 (some .boolean) 0 0 0 0 d m [mA o, mI a1] (some (mI r)) d m := by
  obtain ⟨x, h, K⟩ : ∃ x, fX8_isList d o a1 = some x ∧ x = r := ⟨_, h, rfl⟩
  refine VM.of (L := [mA o, mI a1, mU]) (by decide +kernel) rfl (Nat.le_of_ble_eq_true rfl) fun G F _ => v_fact fun _ hX _ _ => ?_
  unfold fX8_isList at h
  refine v_iconst F dX8_isList_0 ⟨by decide, by decide⟩ ?_
  refine v_istore_n F dX8_isList_1 rfl (Nat.le_of_ble_eq_true rfl) (L' := [mA o, mI a1, mI 0]) rfl ?_
  exact fX8_isList_2_ok F hX hp h K
def fX8_gatherLists_23P (w : Wd) (l : Launch) (G : Cx) (Q : State → Prop) (m : Dt) (o : Int) (s : Dt × Int) : Prop := V w l WF G Q s.1 m 0 0 23 [mA o, mI (s.2), mU, mU] []
theorem fX8_gatherLists_84_ok {w : Wd} {l : Launch} {G : Cx} {d m dd : Dt} {o v1 v3 : Int} {d' : Dt} {x : ((Dt × Int) ⊕ Dt)} (F : Fx w G cX8_gatherLists RX8 4 none { frames := 1, cells := 0, slots := 0, locals := 23 }) (hX : WF dd m) (hp : PB m o 8) (h : fX8_gatherLists_84 d o v1 v3 = some x) (K : (Sum.elim (fX8_gatherLists_23P w l G (QM w G WF none d' m 0 0) m o) (fun q => q = d')) x) : V w l WF G (QM w G WF none d' m 0 0) d m 0 0 84 [mA o, mI v1, mU, mI v3] [] := by
  unfold fX8_gatherLists_84 at h
  refine v_aload_n F dX8_gatherLists_84 rfl rfl ?_
  refine gf_X8_107 F dX8_gatherLists_85 hp (v := (o + 234)) rfl ?_
  refine v_iload_n F dX8_gatherLists_88 rfl rfl ?_
  refine v_dup2_IA F dX8_gatherLists_89 ?_
  obtain ⟨hi20, h⟩ := ck_some h
  refine v_iald F dX8_gatherLists_90 (ar_X8_44 hX hp) hi20 ?_
  refine v_iconst F dX8_gatherLists_91 ⟨by decide, by decide⟩ ?_
  refine v_iadd F dX8_gatherLists_92 ?_
  obtain ⟨d21, ed21, h⟩ := sd_some h
  refine v_iast F dX8_gatherLists_93 (ar_X8_44 hX hp) hi20 ?_
  refine v_nD ed21 ?_
  obtain ⟨x22, ex22, h⟩ := lv_some h
  refine v_iincN F dX8_gatherLists_94 (Nat.le_of_ble_eq_true rfl) rfl ex22 (L' := [mA o, mI x22, mU, mI v3]) rfl ?_
  refine v_goto F dX8_gatherLists_97 rfl ?_
  cases h
  refine v_fgt (L' := [mA o, mI x22, mU, mU]) ⟨Or.inl rfl, Or.inl rfl, Or.inl rfl, Or.inr rfl, trivial⟩ ?_
  exact K
theorem fX8_gatherLists_23f_ok {w : Wd} {l : Launch} {G : Cx} {m dd : Dt} {o : Int} {d' : Dt} {s : Dt × Int} {x : ((Dt × Int) ⊕ Dt)} (F : Fx w G cX8_gatherLists RX8 4 none { frames := 1, cells := 0, slots := 0, locals := 23 }) (hX : WF dd m) (hp : PB m o 8) (h : fX8_gatherLists_23f o s = some x) (K : (Sum.elim (fX8_gatherLists_23P w l G (QM w G WF none d' m 0 0) m o) (fun q => q = d')) x) : V w l WF G (QM w G WF none d' m 0 0) s.1 m 0 0 23 [mA o, mI (s.2), mU, mU] [] := by
  obtain ⟨d, v1⟩ := s
  unfold fX8_gatherLists_23f at h
  dsimp only at h
  refine v_iload_n F dX8_gatherLists_23 rfl rfl ?_
  refine v_aload_n F dX8_gatherLists_24 rfl rfl ?_
  refine gf_X8_148 F dX8_gatherLists_25 hp ?_
  refine v_icmp_ge F dX8_gatherLists_28 rfl (fun hq6 => ?_) (fun hq6 => ?_)
  · rw [if_pos hq6] at h
    obtain ⟨z, hu, ez⟩ := up_some h
    clear h
    subst ez
    have h := hu
    clear hu
    cases h
    cases (show _ = d' from K)
    exact v_vret F dX8_gatherLists_100
  · rw [if_neg hq6] at h
    refine v_aload_n F dX8_gatherLists_31 rfl rfl ?_
    obtain ⟨x7, ex7, h⟩ := lv_some h
    obtain ⟨hn9, h⟩ := ck_some h
    refine gf_X8_135 F dX8_gatherLists_32 hp ex7 fun hr8 => ?_
    have x7p := hr8.resolve_left hn9
    refine gf_X8_212 F dX8_gatherLists_35 x7p (v := (x7 + 6)) rfl ?_
    refine v_iload_n F dX8_gatherLists_38 rfl rfl ?_
    obtain ⟨hi10, h⟩ := ck_some h
    refine v_iald F dX8_gatherLists_39 (ar_X9_7 hX x7p) hi10 ?_
    obtain ⟨x11, ex11, h⟩ := lv_some h
    refine v_nI ex11 ?_
    refine v_istore_n F dX8_gatherLists_40 rfl (Nat.le_of_ble_eq_true rfl) (L' := [mA o, mI v1, mI x11, mU]) rfl ?_
    refine v_aload_n F dX8_gatherLists_41 rfl rfl ?_
    refine gf_X8_9 F dX8_gatherLists_42 hp (v := (o + 1)) rfl ?_
    refine v_iload_n F dX8_gatherLists_45 rfl rfl ?_
    obtain ⟨hi12, h⟩ := ck_some h
    refine v_zald F dX8_gatherLists_46 (ar_X8_4 hX hp) hi12 ?_
    refine v_if_eq F dX8_gatherLists_47 rfl (fun hq13 => ?_) (fun hq13 => ?_)
    · rw [if_pos hq13] at h
      obtain ⟨x14, ex14, h⟩ := lv_some h
      refine v_iincN F dX8_gatherLists_94 (Nat.le_of_ble_eq_true rfl) rfl ex14 (L' := [mA o, mI x14, mI x11, mU]) rfl ?_
      refine v_goto F dX8_gatherLists_97 rfl ?_
      cases h
      refine v_fgt (L' := [mA o, mI x14, mU, mU]) ⟨Or.inl rfl, Or.inl rfl, Or.inr rfl, Or.inl rfl, trivial⟩ ?_
      exact K
    · rw [if_neg hq13] at h
      refine v_aload_n F dX8_gatherLists_50 rfl rfl ?_
      refine v_iload_n F dX8_gatherLists_51 rfl rfl ?_
      obtain ⟨x15, hc16, h⟩ := b1_some h
      refine v_callVv (c := 8) F dX8_gatherLists_52 cv_X8_195 rfl (PB.ob hp hX (Nat.le_of_ble_eq_true rfl)) (Nat.le_of_ble_eq_true rfl) rfl (vm_X8_listOf hp hc16) rfl (rOk.of rfl) ?_
      refine v_istore_n F dX8_gatherLists_55 rfl (Nat.le_of_ble_eq_true rfl) (L' := [mA o, mI v1, mI x11, mI x15]) rfl ?_
      refine v_aload_n F dX8_gatherLists_56 rfl rfl ?_
      refine v_iload_n F dX8_gatherLists_57 rfl rfl ?_
      obtain ⟨x17, hc18, h⟩ := b1_some h
      refine v_callVv (c := 8) F dX8_gatherLists_58 cv_X8_422 rfl (PB.ob hp hX (Nat.le_of_ble_eq_true rfl)) (Nat.le_of_ble_eq_true rfl) rfl (vm_X8_isList hp hc18) rfl (rOk.of rfl) ?_
      refine v_if_ne F dX8_gatherLists_61 rfl (fun hq19 => ?_) (fun hq19 => ?_)
      · rw [if_neg hq19] at h
        refine v_fgt (L' := [mA o, mI v1, mU, mI x15]) ⟨Or.inl rfl, Or.inl rfl, Or.inr rfl, Or.inl rfl, trivial⟩ ?_
        exact fX8_gatherLists_84_ok F hX hp h K
      · rw [if_pos hq19] at h
        refine v_aload_n F dX8_gatherLists_64 rfl rfl ?_
        refine gf_X8_101 F dX8_gatherLists_65 hp (v := (o + 232)) rfl ?_
        refine v_aload_n F dX8_gatherLists_68 rfl rfl ?_
        refine gf_X8_416 F dX8_gatherLists_69 hp ?_
        refine v_iload_n F dX8_gatherLists_72 rfl rfl ?_
        obtain ⟨x23, ex23, h⟩ := lv_some h
        refine v_n2 ex23 ?_
        obtain ⟨hi24, h⟩ := ck_some h
        obtain ⟨d25, ed25, h⟩ := sd_some h
        refine v_iast F dX8_gatherLists_73 (ar_X8_41 hX hp) hi24 ?_
        refine v_nD ed25 ?_
        refine v_aload_n F dX8_gatherLists_74 rfl rfl ?_
        refine v_dup_A F dX8_gatherLists_75 ?_
        refine gf_X8_416 F dX8_gatherLists_76 hp ?_
        refine v_iconst F dX8_gatherLists_79 ⟨by decide, by decide⟩ ?_
        refine v_iadd F dX8_gatherLists_80 ?_
        obtain ⟨d26, ed26, h⟩ := sd_some h
        refine pf_X8_416 F dX8_gatherLists_81 hp ?_
        refine v_nD ed26 ?_
        refine v_fgt (L' := [mA o, mI v1, mU, mI x15]) ⟨Or.inl rfl, Or.inl rfl, Or.inr rfl, Or.inl rfl, trivial⟩ ?_
        exact fX8_gatherLists_84_ok F hX hp h K
theorem fX8_gatherLists_23_ok {w : Wd} {l : Launch} {G : Cx} {d m dd : Dt} {o v1 : Int} {d' : Dt} {x : Dt} (F : Fx w G cX8_gatherLists RX8 4 none { frames := 1, cells := 0, slots := 0, locals := 23 }) (hX : WF dd m) (hp : PB m o 8) (h : fX8_gatherLists_23 d o v1 = some x) (K : (fun q => q = d') x) : V w l WF G (QM w G WF none d' m 0 0) d m 0 0 23 [mA o, mI v1, mU, mU] [] := by
  unfold fX8_gatherLists_23 at h
  exact loop_ok (P := fX8_gatherLists_23P w l G (QM w G WF none d' m 0 0) m o) (fun s x hx h1 h2 => fX8_gatherLists_23f_ok F hX hp hx (by
    cases x with
    | inl s' => exact h1 s' rfl
    | inr z => cases h2 z rfl; exact K)) h
theorem vm_X8_gatherLists {w : Wd} {l : Launch} {d m : Dt} {o : Int} {d' : Dt} (hp : PB m o 8) (h : fX8_gatherLists d o = some d') : VM w l WF yX8_gatherLists cX8_gatherLists 4 none 1 23 0 0 d m [mA o] none d' m := by
  obtain ⟨x, h, K⟩ : ∃ x, fX8_gatherLists d o = some x ∧ x = d' := ⟨_, h, rfl⟩
  refine VM.of (L := [mA o, mU, mU, mU]) (by decide +kernel) rfl (Nat.le_of_ble_eq_true rfl) fun G F _ => v_fact fun _ hX _ _ => ?_
  unfold fX8_gatherLists at h
  refine v_aload_n F dX8_gatherLists_0 rfl rfl ?_
  refine v_iconst F dX8_gatherLists_1 ⟨by decide, by decide⟩ ?_
  obtain ⟨d1, ed1, h⟩ := sd_some h
  refine pf_X8_416 F dX8_gatherLists_2 hp ?_
  refine v_nD ed1 ?_
  refine v_aload_n F dX8_gatherLists_5 rfl rfl ?_
  refine gf_X8_104 F dX8_gatherLists_6 hp (v := (o + 233)) rfl ?_
  refine v_iconst F dX8_gatherLists_9 ⟨by decide, by decide⟩ ?_
  obtain ⟨d2, hc3, h⟩ := bd_some h
  refine v_callS0 F dX8_gatherLists_10 cs_X8_419 rfl (vm_J4_fill_2 (ar_X8_43 hX hp) hc3) rfl (rOk.of rfl) ?_
  refine v_aload_n F dX8_gatherLists_13 rfl rfl ?_
  refine gf_X8_107 F dX8_gatherLists_14 hp (v := (o + 234)) rfl ?_
  refine v_iconst F dX8_gatherLists_17 ⟨by decide, by decide⟩ ?_
  obtain ⟨d4, hc5, h⟩ := bd_some h
  refine v_callS0 F dX8_gatherLists_18 cs_X8_419 rfl (vm_J4_fill_2 (ar_X8_44 hX hp) hc5) rfl (rOk.of rfl) ?_
  refine v_iconst F dX8_gatherLists_21 ⟨by decide, by decide⟩ ?_
  refine v_istore_n F dX8_gatherLists_22 rfl (Nat.le_of_ble_eq_true rfl) (L' := [mA o, mI 0, mU, mU]) rfl ?_
  exact fX8_gatherLists_23_ok F hX hp h K
def fX8_countLists_10P (w : Wd) (l : Launch) (G : Cx) (Q : State → Prop) (m : Dt) (o : Int) (s : Dt × Int) : Prop := V w l WF G Q s.1 m 0 0 10 [mA o, mI (s.2), mU, mU] []
def fX8_countLists_22P (w : Wd) (l : Launch) (G : Cx) (Q : State → Prop) (m : Dt) (o v1 : Int) (s : Dt × Int × Int) : Prop := V w l WF G Q s.1 m 0 0 22 [mA o, mI v1, mI (s.2.1), mI (s.2.2)] []
theorem fX8_countLists_22f_ok {w : Wd} {l : Launch} {G : Cx} {m dd : Dt} {o v1 : Int} {d' : Dt} {s : Dt × Int × Int} {x : ((Dt × Int × Int) ⊕ ((Dt × Int) ⊕ Dt))} (F : Fx w G cX8_countLists RX8 4 none { frames := 1, cells := 0, slots := 0, locals := 24 }) (hX : WF dd m) (hp : PB m o 8) (h : fX8_countLists_22f o v1 s = some x) (K : (Sum.elim (fX8_countLists_22P w l G (QM w G WF none d' m 0 0) m o v1) (Sum.elim (fX8_countLists_10P w l G (QM w G WF none d' m 0 0) m o) (fun q => q = d'))) x) : V w l WF G (QM w G WF none d' m 0 0) s.1 m 0 0 22 [mA o, mI v1, mI (s.2.1), mI (s.2.2)] [] := by
  obtain ⟨d, v2, v3⟩ := s
  unfold fX8_countLists_22f at h
  dsimp only at h
  refine v_iload_n F dX8_countLists_22 rfl rfl ?_
  refine v_aload_n F dX8_countLists_23 rfl rfl ?_
  refine gf_X8_148 F dX8_countLists_24 hp ?_
  refine v_icmp_ge F dX8_countLists_27 rfl (fun hq4 => ?_) (fun hq4 => ?_)
  · rw [if_pos hq4] at h
    obtain ⟨z, hu, ez⟩ := up_some h
    clear h
    subst ez
    have h := hu
    clear hu
    refine v_aload_n F dX8_countLists_59 rfl rfl ?_
    refine gf_X8_104 F dX8_countLists_60 hp (v := (o + 233)) rfl ?_
    refine v_aload_n F dX8_countLists_63 rfl rfl ?_
    refine v_iload_n F dX8_countLists_64 rfl rfl ?_
    obtain ⟨x5, hc6, h⟩ := b1_some h
    refine v_callVv (c := 8) F dX8_countLists_65 cv_X8_195 rfl (PB.ob hp hX (Nat.le_of_ble_eq_true rfl)) (Nat.le_of_ble_eq_true rfl) rfl (vm_X8_listOf hp hc6) rfl (rOk.of rfl) ?_
    refine v_dup2_IA F dX8_countLists_68 ?_
    obtain ⟨hi7, h⟩ := ck_some h
    refine v_iald F dX8_countLists_69 (ar_X8_43 hX hp) hi7 ?_
    refine v_iconst F dX8_countLists_70 ⟨by decide, by decide⟩ ?_
    refine v_iadd F dX8_countLists_71 ?_
    obtain ⟨d8, ed8, h⟩ := sd_some h
    refine v_iast F dX8_countLists_72 (ar_X8_43 hX hp) hi7 ?_
    refine v_nD ed8 ?_
    obtain ⟨x9, ex9, h⟩ := lv_some h
    refine v_iincN F dX8_countLists_73 (Nat.le_of_ble_eq_true rfl) rfl ex9 (L' := [mA o, mI x9, mI v2, mI v3]) rfl ?_
    refine v_goto F dX8_countLists_76 rfl ?_
    cases h
    refine v_fgt (L' := [mA o, mI x9, mU, mU]) ⟨Or.inl rfl, Or.inl rfl, Or.inr rfl, Or.inr rfl, trivial⟩ ?_
    exact K
  · rw [if_neg hq4] at h
    refine v_aload_n F dX8_countLists_30 rfl rfl ?_
    refine gf_X8_17 F dX8_countLists_31 hp (v := (o + 2)) rfl ?_
    refine v_iload_n F dX8_countLists_34 rfl rfl ?_
    obtain ⟨hi10, h⟩ := ck_some h
    refine v_aaldF (c := 8) (k := 6) F dX8_countLists_35 hp (Nat.le_of_ble_eq_true rfl) (Nat.le_of_ble_eq_true rfl) (by decide) (by decide) rfl (ar_X8_6 hX hp) (Nat.le_of_ble_eq_true rfl) rfl rfl rfl rfl hi10 (v := ((o + 3) + v1)) (by show o + 3 + 1 * v1 = _; omega) ?_
    refine v_iload_n F dX8_countLists_36 rfl rfl ?_
    obtain ⟨hi11, h⟩ := ck_some h
    refine v_bald F dX8_countLists_37 (ae_X8_6 (i := v1) hX hp hi10 (v := ((o + 3) + v1)) (by omega)) hi11 ?_
    refine v_if_le F dX8_countLists_38 rfl (fun hq12 => ?_) (fun hq12 => ?_)
    · rw [if_pos hq12] at h
      obtain ⟨x13, ex13, h⟩ := lv_some h
      refine v_iincN F dX8_countLists_53 (Nat.le_of_ble_eq_true rfl) rfl ex13 (L' := [mA o, mI v1, mI v2, mI x13]) rfl ?_
      refine v_goto F dX8_countLists_56 rfl ?_
      cases h
      exact K
    · rw [if_neg hq12] at h
      refine v_aload_n F dX8_countLists_41 rfl rfl ?_
      refine gf_X8_33 F dX8_countLists_42 hp (v := (o + 126)) rfl ?_
      refine v_iload_n F dX8_countLists_45 rfl rfl ?_
      refine v_dup2_IA F dX8_countLists_46 ?_
      refine v_lald F dX8_countLists_47 (ar_X8_13 hX hp) hi11 ?_
      refine v_lconst1 F dX8_countLists_48 ?_
      refine v_ladd F dX8_countLists_49 ?_
      obtain ⟨d14, ed14, h⟩ := sd_some h
      refine v_last F dX8_countLists_50 (ar_X8_13 hX hp) hi11 ?_
      refine v_nD ed14 ?_
      refine v_iload_n F dX8_countLists_51 rfl rfl ?_
      refine v_istore_n F dX8_countLists_52 rfl (Nat.le_of_ble_eq_true rfl) (L' := [mA o, mI v1, mI v3, mI v3]) rfl ?_
      obtain ⟨x15, ex15, h⟩ := lv_some h
      refine v_iincN F dX8_countLists_53 (Nat.le_of_ble_eq_true rfl) rfl ex15 (L' := [mA o, mI v1, mI v3, mI x15]) rfl ?_
      refine v_goto F dX8_countLists_56 rfl ?_
      cases h
      exact K
theorem fX8_countLists_22_ok {w : Wd} {l : Launch} {G : Cx} {d m dd : Dt} {o v1 v2 v3 : Int} {d' : Dt} {x : ((Dt × Int) ⊕ Dt)} (F : Fx w G cX8_countLists RX8 4 none { frames := 1, cells := 0, slots := 0, locals := 24 }) (hX : WF dd m) (hp : PB m o 8) (h : fX8_countLists_22 d o v1 v2 v3 = some x) (K : (Sum.elim (fX8_countLists_10P w l G (QM w G WF none d' m 0 0) m o) (fun q => q = d')) x) : V w l WF G (QM w G WF none d' m 0 0) d m 0 0 22 [mA o, mI v1, mI v2, mI v3] [] := by
  unfold fX8_countLists_22 at h
  exact loop_ok (P := fX8_countLists_22P w l G (QM w G WF none d' m 0 0) m o v1) (fun s x hx h1 h2 => fX8_countLists_22f_ok F hX hp hx (by
    cases x with
    | inl s' => exact h1 s' rfl
    | inr z => cases h2 z rfl; exact K)) h
theorem fX8_countLists_10f_ok {w : Wd} {l : Launch} {G : Cx} {m dd : Dt} {o : Int} {d' : Dt} {s : Dt × Int} {x : ((Dt × Int) ⊕ Dt)} (F : Fx w G cX8_countLists RX8 4 none { frames := 1, cells := 0, slots := 0, locals := 24 }) (hX : WF dd m) (hp : PB m o 8) (h : fX8_countLists_10f o s = some x) (K : (Sum.elim (fX8_countLists_10P w l G (QM w G WF none d' m 0 0) m o) (fun q => q = d')) x) : V w l WF G (QM w G WF none d' m 0 0) s.1 m 0 0 10 [mA o, mI (s.2), mU, mU] [] := by
  obtain ⟨d, v1⟩ := s
  unfold fX8_countLists_10f at h
  dsimp only at h
  refine v_iload_n F dX8_countLists_10 rfl rfl ?_
  refine v_aload_n F dX8_countLists_11 rfl rfl ?_
  refine gf_X8_155 F dX8_countLists_12 hp ?_
  refine v_icmp_ge F dX8_countLists_15 rfl (fun hq3 => ?_) (fun hq3 => ?_)
  · rw [if_pos hq3] at h
    obtain ⟨z, hu, ez⟩ := up_some h
    clear h
    subst ez
    have h := hu
    clear hu
    cases h
    cases (show _ = d' from K)
    exact v_vret F dX8_countLists_79
  · rw [if_neg hq3] at h
    refine v_iconst F dX8_countLists_18 ⟨by decide, by decide⟩ ?_
    refine v_istore_n F dX8_countLists_19 rfl (Nat.le_of_ble_eq_true rfl) (L' := [mA o, mI v1, mI (-1), mU]) rfl ?_
    refine v_iconst F dX8_countLists_20 ⟨by decide, by decide⟩ ?_
    refine v_istore_n F dX8_countLists_21 rfl (Nat.le_of_ble_eq_true rfl) (L' := [mA o, mI v1, mI (-1), mI 0]) rfl ?_
    exact fX8_countLists_22_ok F hX hp h K
theorem fX8_countLists_10_ok {w : Wd} {l : Launch} {G : Cx} {d m dd : Dt} {o v1 : Int} {d' : Dt} {x : Dt} (F : Fx w G cX8_countLists RX8 4 none { frames := 1, cells := 0, slots := 0, locals := 24 }) (hX : WF dd m) (hp : PB m o 8) (h : fX8_countLists_10 d o v1 = some x) (K : (fun q => q = d') x) : V w l WF G (QM w G WF none d' m 0 0) d m 0 0 10 [mA o, mI v1, mU, mU] [] := by
  unfold fX8_countLists_10 at h
  exact loop_ok (P := fX8_countLists_10P w l G (QM w G WF none d' m 0 0) m o) (fun s x hx h1 h2 => fX8_countLists_10f_ok F hX hp hx (by
    cases x with
    | inl s' => exact h1 s' rfl
    | inr z => cases h2 z rfl; exact K)) h
theorem vm_X8_countLists {w : Wd} {l : Launch} {d m : Dt} {o : Int} {d' : Dt} (hp : PB m o 8) (h : fX8_countLists d o = some d') : VM w l WF yX8_countLists cX8_countLists 4 none 1 24 0 0 d m [mA o] none d' m := by
  obtain ⟨x, h, K⟩ : ∃ x, fX8_countLists d o = some x ∧ x = d' := ⟨_, h, rfl⟩
  refine VM.of (L := [mA o, mU, mU, mU]) (by decide +kernel) rfl (Nat.le_of_ble_eq_true rfl) fun G F _ => v_fact fun _ hX _ _ => ?_
  unfold fX8_countLists at h
  refine v_aload_n F dX8_countLists_0 rfl rfl ?_
  refine gf_X8_33 F dX8_countLists_1 hp (v := (o + 126)) rfl ?_
  refine v_lconst0 F dX8_countLists_4 ?_
  obtain ⟨d1, hc2, h⟩ := bd_some h
  refine v_callS0 F dX8_countLists_5 cs_X8_242 rfl (vm_J4_fill_3 (ar_X8_13 hX hp) hc2) rfl (rOk.of rfl) ?_
  refine v_iconst F dX8_countLists_8 ⟨by decide, by decide⟩ ?_
  refine v_istore_n F dX8_countLists_9 rfl (Nat.le_of_ble_eq_true rfl) (L' := [mA o, mI 0, mU, mU]) rfl ?_
  exact fX8_countLists_10_ok F hX hp h K
def fX8_tell_2P (w : Wd) (l : Launch) (G : Cx) (Q : State → Prop) (m : Dt) (o : Int) (s : Dt × Int) : Prop := V w l WF G Q s.1 m 0 0 2 [mA o, mI (s.2)] []
theorem fX8_tell_39_ok {w : Wd} {l : Launch} {G : Cx} {d m dd : Dt} {o v1 s0 s1 s2 : Int} {d' : Dt} {x : ((Dt × Int) ⊕ Dt)} (F : Fx w G cX8_tell RX8 2 none { frames := 0, cells := 0, slots := 0, locals := 0 }) (hX : WF dd m) (hp : PB m o 8) (hs0 : AR m s0 104 9) (h : fX8_tell_39 d o v1 s0 s1 s2 = some x) (K : (Sum.elim (fX8_tell_2P w l G (QM w G WF none d' m 0 0) m o) (fun q => q = d')) x) : V w l WF G (QM w G WF none d' m 0 0) d m 0 0 39 [mA o, mI v1] [mL s2, mI s1, mA s0] := by
  unfold fX8_tell_39 at h
  obtain ⟨hi13, h⟩ := ck_some h
  obtain ⟨d14, ed14, h⟩ := sd_some h
  refine v_last F dX8_tell_39 hs0 hi13 ?_
  refine v_nD ed14 ?_
  obtain ⟨x15, ex15, h⟩ := lv_some h
  refine v_iincN F dX8_tell_40 (Nat.le_of_ble_eq_true rfl) rfl ex15 (L' := [mA o, mI x15]) rfl ?_
  refine v_goto F dX8_tell_43 rfl ?_
  cases h
  exact K
theorem fX8_tell_2f_ok {w : Wd} {l : Launch} {G : Cx} {m dd : Dt} {o : Int} {d' : Dt} {s : Dt × Int} {x : ((Dt × Int) ⊕ Dt)} (F : Fx w G cX8_tell RX8 2 none { frames := 0, cells := 0, slots := 0, locals := 0 }) (hX : WF dd m) (hp : PB m o 8) (h : fX8_tell_2f o s = some x) (K : (Sum.elim (fX8_tell_2P w l G (QM w G WF none d' m 0 0) m o) (fun q => q = d')) x) : V w l WF G (QM w G WF none d' m 0 0) s.1 m 0 0 2 [mA o, mI (s.2)] [] := by
  obtain ⟨d, v1⟩ := s
  unfold fX8_tell_2f at h
  dsimp only at h
  refine v_iload_n F dX8_tell_2 rfl rfl ?_
  refine v_aload_n F dX8_tell_3 rfl rfl ?_
  refine gf_X8_148 F dX8_tell_4 hp ?_
  refine v_icmp_ge F dX8_tell_7 rfl (fun hq1 => ?_) (fun hq1 => ?_)
  · rw [if_pos hq1] at h
    obtain ⟨z, hu, ez⟩ := up_some h
    clear h
    subst ez
    have h := hu
    clear hu
    refine v_aload_n F dX8_tell_46 rfl rfl ?_
    refine gf_X8_42 F dX8_tell_47 hp (v := (o + 168)) rfl ?_
    refine v_aload_n F dX8_tell_50 rfl rfl ?_
    refine gf_X8_164 F dX8_tell_51 hp ?_
    refine v_iconst F dX8_tell_54 ⟨by decide, by decide⟩ ?_
    obtain ⟨x2, ex2, h⟩ := lv_some h
    refine v_n2 ex2 ?_
    obtain ⟨hi3, h⟩ := ck_some h
    obtain ⟨d4, ed4, h⟩ := sd_some h
    refine v_iast F dX8_tell_55 (ar_X8_15 hX hp) hi3 ?_
    refine v_nD ed4 ?_
    refine v_aload_n F dX8_tell_56 rfl rfl ?_
    refine gf_X8_45 F dX8_tell_57 hp (v := (o + 169)) rfl ?_
    refine v_aload_n F dX8_tell_60 rfl rfl ?_
    refine gf_X8_164 F dX8_tell_61 hp ?_
    refine v_iconst F dX8_tell_64 ⟨by decide, by decide⟩ ?_
    obtain ⟨x5, ex5, h⟩ := lv_some h
    refine v_n2 ex5 ?_
    obtain ⟨hi6, h⟩ := ck_some h
    obtain ⟨d7, ed7, h⟩ := sd_some h
    refine v_iast F dX8_tell_65 (ar_X8_16 hX hp) hi6 ?_
    refine v_nD ed7 ?_
    refine v_aload_n F dX8_tell_66 rfl rfl ?_
    refine v_dup_A F dX8_tell_67 ?_
    refine gf_X8_164 F dX8_tell_68 hp ?_
    refine v_iconst F dX8_tell_71 ⟨by decide, by decide⟩ ?_
    refine v_iadd F dX8_tell_72 ?_
    obtain ⟨d8, ed8, h⟩ := sd_some h
    refine pf_X8_164 F dX8_tell_73 hp ?_
    refine v_nD ed8 ?_
    cases h
    cases (show _ = d' from K)
    exact v_vret F dX8_tell_76
  · rw [if_neg hq1] at h
    refine v_aload_n F dX8_tell_10 rfl rfl ?_
    refine gf_X8_39 F dX8_tell_11 hp (v := (o + 127)) rfl ?_
    refine v_aload_n F dX8_tell_14 rfl rfl ?_
    refine gf_X8_164 F dX8_tell_15 hp ?_
    obtain ⟨x9, ex9, h⟩ := lv_some h
    refine v_nI ex9 ?_
    obtain ⟨hi10, h⟩ := ck_some h
    refine v_aaldF (c := 8) (k := 14) F dX8_tell_18 hp (Nat.le_of_ble_eq_true rfl) (Nat.le_of_ble_eq_true rfl) (by decide) (by decide) rfl (ar_X8_14 hX hp) (Nat.le_of_ble_eq_true rfl) rfl rfl rfl rfl hi10 (v := ((o + 128) + x9)) (by show o + 128 + 1 * x9 = _; omega) ?_
    refine v_iload_n F dX8_tell_19 rfl rfl ?_
    refine v_aload_n F dX8_tell_20 rfl rfl ?_
    refine gf_X8_9 F dX8_tell_21 hp (v := (o + 1)) rfl ?_
    refine v_iload_n F dX8_tell_24 rfl rfl ?_
    obtain ⟨hi11, h⟩ := ck_some h
    refine v_zald F dX8_tell_25 (ar_X8_4 hX hp) hi11 ?_
    refine v_if_eq F dX8_tell_26 rfl (fun hq12 => ?_) (fun hq12 => ?_)
    · rw [if_pos hq12] at h
      refine v_lconst0 F dX8_tell_38 ?_
      exact fX8_tell_39_ok F hX hp (ae_X8_14 (i := x9) hX hp hi10 (v := ((o + 128) + x9)) (by omega)) h K
    · rw [if_neg hq12] at h
      refine v_aload_n F dX8_tell_29 rfl rfl ?_
      refine gf_X8_33 F dX8_tell_30 hp (v := (o + 126)) rfl ?_
      refine v_iload_n F dX8_tell_33 rfl rfl ?_
      refine v_lald F dX8_tell_34 (ar_X8_13 hX hp) hi11 ?_
      refine v_goto F dX8_tell_35 rfl ?_
      exact fX8_tell_39_ok F hX hp (ae_X8_14 (i := x9) hX hp hi10 (v := ((o + 128) + x9)) (by omega)) h K
theorem fX8_tell_2_ok {w : Wd} {l : Launch} {G : Cx} {d m dd : Dt} {o v1 : Int} {d' : Dt} {x : Dt} (F : Fx w G cX8_tell RX8 2 none { frames := 0, cells := 0, slots := 0, locals := 0 }) (hX : WF dd m) (hp : PB m o 8) (h : fX8_tell_2 d o v1 = some x) (K : (fun q => q = d') x) : V w l WF G (QM w G WF none d' m 0 0) d m 0 0 2 [mA o, mI v1] [] := by
  unfold fX8_tell_2 at h
  exact loop_ok (P := fX8_tell_2P w l G (QM w G WF none d' m 0 0) m o) (fun s x hx h1 h2 => fX8_tell_2f_ok F hX hp hx (by
    cases x with
    | inl s' => exact h1 s' rfl
    | inr z => cases h2 z rfl; exact K)) h
theorem vm_X8_tell {w : Wd} {l : Launch} {d m : Dt} {o : Int} {d' : Dt} (hp : PB m o 8) (h : fX8_tell d o = some d') : VM w l WF yX8_tell cX8_tell 2 none 0 0 0 0 d m [mA o] none d' m := by
  obtain ⟨x, h, K⟩ : ∃ x, fX8_tell d o = some x ∧ x = d' := ⟨_, h, rfl⟩
  refine VM.of (L := [mA o, mU]) (by decide +kernel) rfl (Nat.le_of_ble_eq_true rfl) fun G F _ => v_fact fun _ hX _ _ => ?_
  unfold fX8_tell at h
  refine v_iconst F dX8_tell_0 ⟨by decide, by decide⟩ ?_
  refine v_istore_n F dX8_tell_1 rfl (Nat.le_of_ble_eq_true rfl) (L' := [mA o, mI 0]) rfl ?_
  exact fX8_tell_2_ok F hX hp h K
def fX8_tellLists_2P (w : Wd) (l : Launch) (G : Cx) (Q : State → Prop) (m : Dt) (o : Int) (s : Dt × Int) : Prop := V w l WF G Q s.1 m 0 0 2 [mA o, mI (s.2)] []
theorem fX8_tellLists_37_ok {w : Wd} {l : Launch} {G : Cx} {d m dd : Dt} {o v1 s1 s3 : Int} {d' : Dt} {x : ((Dt × Int) ⊕ Dt)} (F : Fx w G cX8_tellLists RX8 2 none { frames := 1, cells := 0, slots := 0, locals := 22 }) (hX : WF dd m) (hp : PB m o 8) (h : fX8_tellLists_37 d o v1 s1 s3 = some x) (K : (Sum.elim (fX8_tellLists_2P w l G (QM w G WF none d' m 0 0) m o) (fun q => q = d')) x) : V w l WF G (QM w G WF none d' m 0 0) d m 0 0 37 [mA o, mI v1] [mI s3, mA (o + 233), mI s1, mA (o + 126)] := by
  unfold fX8_tellLists_37 at h
  obtain ⟨hi6, h⟩ := ck_some h
  refine v_iald F dX8_tellLists_37 (ar_X8_43 hX hp) hi6 ?_
  refine v_i2l F dX8_tellLists_38 ?_
  obtain ⟨hi7, h⟩ := ck_some h
  obtain ⟨d8, ed8, h⟩ := sd_some h
  refine v_last F dX8_tellLists_39 (ar_X8_13 hX hp) hi7 ?_
  refine v_nD ed8 ?_
  obtain ⟨x9, ex9, h⟩ := lv_some h
  refine v_iincN F dX8_tellLists_40 (Nat.le_of_ble_eq_true rfl) rfl ex9 (L' := [mA o, mI x9]) rfl ?_
  refine v_goto F dX8_tellLists_43 rfl ?_
  cases h
  exact K
theorem fX8_tellLists_2f_ok {w : Wd} {l : Launch} {G : Cx} {m dd : Dt} {o : Int} {d' : Dt} {s : Dt × Int} {x : ((Dt × Int) ⊕ Dt)} (F : Fx w G cX8_tellLists RX8 2 none { frames := 1, cells := 0, slots := 0, locals := 22 }) (hX : WF dd m) (hp : PB m o 8) (h : fX8_tellLists_2f o s = some x) (K : (Sum.elim (fX8_tellLists_2P w l G (QM w G WF none d' m 0 0) m o) (fun q => q = d')) x) : V w l WF G (QM w G WF none d' m 0 0) s.1 m 0 0 2 [mA o, mI (s.2)] [] := by
  obtain ⟨d, v1⟩ := s
  unfold fX8_tellLists_2f at h
  dsimp only at h
  refine v_iload_n F dX8_tellLists_2 rfl rfl ?_
  refine v_aload_n F dX8_tellLists_3 rfl rfl ?_
  refine gf_X8_148 F dX8_tellLists_4 hp ?_
  refine v_icmp_ge F dX8_tellLists_7 rfl (fun hq1 => ?_) (fun hq1 => ?_)
  · rw [if_pos hq1] at h
    obtain ⟨z, hu, ez⟩ := up_some h
    clear h
    subst ez
    have h := hu
    clear hu
    refine v_aload_n F dX8_tellLists_46 rfl rfl ?_
    obtain ⟨d2, hc3, h⟩ := bd_some h
    refine v_callV0 (c := 8) F dX8_tellLists_47 cv_X8_254 rfl (PB.ob hp hX (Nat.le_of_ble_eq_true rfl)) (Nat.le_of_ble_eq_true rfl) rfl (vm_X8_tell hp hc3) rfl (rOk.of rfl) ?_
    cases h
    cases (show _ = d' from K)
    exact v_vret F dX8_tellLists_50
  · rw [if_neg hq1] at h
    refine v_aload_n F dX8_tellLists_10 rfl rfl ?_
    refine gf_X8_33 F dX8_tellLists_11 hp (v := (o + 126)) rfl ?_
    refine v_iload_n F dX8_tellLists_14 rfl rfl ?_
    refine v_aload_n F dX8_tellLists_15 rfl rfl ?_
    refine gf_X8_104 F dX8_tellLists_16 hp (v := (o + 233)) rfl ?_
    refine v_aload_n F dX8_tellLists_19 rfl rfl ?_
    refine gf_X8_9 F dX8_tellLists_20 hp (v := (o + 1)) rfl ?_
    refine v_iload_n F dX8_tellLists_23 rfl rfl ?_
    obtain ⟨hi4, h⟩ := ck_some h
    refine v_zald F dX8_tellLists_24 (ar_X8_4 hX hp) hi4 ?_
    refine v_if_eq F dX8_tellLists_25 rfl (fun hq5 => ?_) (fun hq5 => ?_)
    · rw [if_pos hq5] at h
      refine v_iload_n F dX8_tellLists_36 rfl rfl ?_
      exact fX8_tellLists_37_ok F hX hp h K
    · rw [if_neg hq5] at h
      refine v_aload_n F dX8_tellLists_28 rfl rfl ?_
      refine v_iload_n F dX8_tellLists_29 rfl rfl ?_
      obtain ⟨x10, hc11, h⟩ := b1_some h
      refine v_callVv (c := 8) F dX8_tellLists_30 cv_X8_195 rfl (PB.ob hp hX (Nat.le_of_ble_eq_true rfl)) (Nat.le_of_ble_eq_true rfl) rfl (vm_X8_listOf hp hc11) rfl (rOk.of rfl) ?_
      refine v_goto F dX8_tellLists_33 rfl ?_
      exact fX8_tellLists_37_ok F hX hp h K
theorem fX8_tellLists_2_ok {w : Wd} {l : Launch} {G : Cx} {d m dd : Dt} {o v1 : Int} {d' : Dt} {x : Dt} (F : Fx w G cX8_tellLists RX8 2 none { frames := 1, cells := 0, slots := 0, locals := 22 }) (hX : WF dd m) (hp : PB m o 8) (h : fX8_tellLists_2 d o v1 = some x) (K : (fun q => q = d') x) : V w l WF G (QM w G WF none d' m 0 0) d m 0 0 2 [mA o, mI v1] [] := by
  unfold fX8_tellLists_2 at h
  exact loop_ok (P := fX8_tellLists_2P w l G (QM w G WF none d' m 0 0) m o) (fun s x hx h1 h2 => fX8_tellLists_2f_ok F hX hp hx (by
    cases x with
    | inl s' => exact h1 s' rfl
    | inr z => cases h2 z rfl; exact K)) h
theorem vm_X8_tellLists {w : Wd} {l : Launch} {d m : Dt} {o : Int} {d' : Dt} (hp : PB m o 8) (h : fX8_tellLists d o = some d') : VM w l WF yX8_tellLists cX8_tellLists 2 none 1 22 0 0 d m [mA o] none d' m := by
  obtain ⟨x, h, K⟩ : ∃ x, fX8_tellLists d o = some x ∧ x = d' := ⟨_, h, rfl⟩
  refine VM.of (L := [mA o, mU]) (by decide +kernel) rfl (Nat.le_of_ble_eq_true rfl) fun G F _ => v_fact fun _ hX _ _ => ?_
  unfold fX8_tellLists at h
  refine v_iconst F dX8_tellLists_0 ⟨by decide, by decide⟩ ?_
  refine v_istore_n F dX8_tellLists_1 rfl (Nat.le_of_ble_eq_true rfl) (L' := [mA o, mI 0]) rfl ?_
  exact fX8_tellLists_2_ok F hX hp h K
def fX8_admit_9P (w : Wd) (l : Launch) (G : Cx) (Q : State → Prop) (m : Dt) (o : Int) (s : Dt × Int × Int) : Prop := V w l WF G Q s.1 m 0 0 9 [mA o, mI (s.2.1), mI (s.2.2), mU] []
def fX8_admit_81P (w : Wd) (l : Launch) (G : Cx) (Q : State → Prop) (m : Dt) (o v1 : Int) (s : Dt × Int) : Prop := V w l WF G Q s.1 m 0 0 81 [mA o, mI v1, mI (s.2), mU] []
theorem fX8_admit_138_ok {w : Wd} {l : Launch} {G : Cx} {d m dd : Dt} {o v1 v2 s1 s2 : Int} {d' : Dt} {x : ((Dt × Int) ⊕ Dt)} (F : Fx w G cX8_admit RX8 4 none { frames := 0, cells := 0, slots := 0, locals := 0 }) (hX : WF dd m) (hp : PB m o 8) (h : fX8_admit_138 d o v1 v2 s1 s2 = some x) (K : (Sum.elim (fX8_admit_81P w l G (QM w G WF none d' m 0 0) m o v1) (fun q => q = d')) x) : V w l WF G (QM w G WF none d' m 0 0) d m 0 0 138 [mA o, mI v1, mI v2, mU] [mI s2, mI s1, mA o] := by
  unfold fX8_admit_138 at h
  refine v_iadd F dX8_admit_138 ?_
  obtain ⟨d12, ed12, h⟩ := sd_some h
  refine pf_X8_425 F dX8_admit_139 hp ?_
  refine v_nD ed12 ?_
  obtain ⟨x13, ex13, h⟩ := lv_some h
  refine v_iincN F dX8_admit_142 (Nat.le_of_ble_eq_true rfl) rfl ex13 (L' := [mA o, mI v1, mI x13, mU]) rfl ?_
  refine v_goto F dX8_admit_145 rfl ?_
  cases h
  exact K
theorem fX8_admit_112_ok {w : Wd} {l : Launch} {G : Cx} {d m dd : Dt} {o v1 v2 v3 s1 s2 s3 : Int} {d' : Dt} {x : ((Dt × Int) ⊕ Dt)} (F : Fx w G cX8_admit RX8 4 none { frames := 0, cells := 0, slots := 0, locals := 0 }) (hX : WF dd m) (hp : PB m o 8) (h : fX8_admit_112 d o v1 v2 v3 s1 s2 s3 = some x) (K : (Sum.elim (fX8_admit_81P w l G (QM w G WF none d' m 0 0) m o v1) (fun q => q = d')) x) : V w l WF G (QM w G WF none d' m 0 0) d m 0 0 112 [mA o, mI v1, mI v2, mI v3] [mI s3, mI s2, mI s1, mA (o + 235)] := by
  unfold fX8_admit_112 at h
  refine v_ior F dX8_admit_112 ?_
  obtain ⟨hi8, h⟩ := ck_some h
  obtain ⟨d9, ed9, h⟩ := sd_some h
  refine v_zast F dX8_admit_113 (ar_X8_45 hX hp) hi8 ?_
  refine v_nD ed9 ?_
  refine v_aload_n F dX8_admit_114 rfl rfl ?_
  refine v_dup_A F dX8_admit_115 ?_
  refine gf_X8_425 F dX8_admit_116 hp ?_
  refine v_aload_n F dX8_admit_119 rfl rfl ?_
  refine gf_X8_110 F dX8_admit_120 hp (v := (o + 235)) rfl ?_
  refine v_iload_n F dX8_admit_123 rfl rfl ?_
  obtain ⟨hi10, h⟩ := ck_some h
  refine v_zald F dX8_admit_124 (ar_X8_45 hX hp) hi10 ?_
  refine v_if_eq F dX8_admit_125 rfl (fun hq11 => ?_) (fun hq11 => ?_)
  · rw [if_pos hq11] at h
    refine v_iconst F dX8_admit_137 ⟨by decide, by decide⟩ ?_
    refine v_fgt (L' := [mA o, mI v1, mI v2, mU]) ⟨Or.inl rfl, Or.inl rfl, Or.inl rfl, Or.inr rfl, trivial⟩ ?_
    exact fX8_admit_138_ok F hX hp h K
  · rw [if_neg hq11] at h
    refine v_aload_n F dX8_admit_128 rfl rfl ?_
    refine gf_X8_104 F dX8_admit_129 hp (v := (o + 233)) rfl ?_
    refine v_iload_n F dX8_admit_132 rfl rfl ?_
    refine v_iald F dX8_admit_133 (ar_X8_43 hX hp) hi10 ?_
    refine v_goto F dX8_admit_134 rfl ?_
    refine v_fgt (L' := [mA o, mI v1, mI v2, mU]) ⟨Or.inl rfl, Or.inl rfl, Or.inl rfl, Or.inr rfl, trivial⟩ ?_
    exact fX8_admit_138_ok F hX hp h K
theorem fX8_admit_81f_ok {w : Wd} {l : Launch} {G : Cx} {m dd : Dt} {o v1 : Int} {d' : Dt} {s : Dt × Int} {x : ((Dt × Int) ⊕ Dt)} (F : Fx w G cX8_admit RX8 4 none { frames := 0, cells := 0, slots := 0, locals := 0 }) (hX : WF dd m) (hp : PB m o 8) (h : fX8_admit_81f o v1 s = some x) (K : (Sum.elim (fX8_admit_81P w l G (QM w G WF none d' m 0 0) m o v1) (fun q => q = d')) x) : V w l WF G (QM w G WF none d' m 0 0) s.1 m 0 0 81 [mA o, mI v1, mI (s.2), mU] [] := by
  obtain ⟨d, v2⟩ := s
  unfold fX8_admit_81f at h
  dsimp only at h
  refine v_iload_n F dX8_admit_81 rfl rfl ?_
  refine v_aload_n F dX8_admit_82 rfl rfl ?_
  refine gf_X8_416 F dX8_admit_83 hp ?_
  refine v_icmp_ge F dX8_admit_86 rfl (fun hq3 => ?_) (fun hq3 => ?_)
  · rw [if_pos hq3] at h
    obtain ⟨z, hu, ez⟩ := up_some h
    clear h
    subst ez
    have h := hu
    clear hu
    cases h
    cases (show _ = d' from K)
    exact v_vret F dX8_admit_148
  · rw [if_neg hq3] at h
    refine v_aload_n F dX8_admit_89 rfl rfl ?_
    refine gf_X8_101 F dX8_admit_90 hp (v := (o + 232)) rfl ?_
    refine v_iload_n F dX8_admit_93 rfl rfl ?_
    obtain ⟨hi4, h⟩ := ck_some h
    refine v_iald F dX8_admit_94 (ar_X8_41 hX hp) hi4 ?_
    obtain ⟨x5, ex5, h⟩ := lv_some h
    refine v_nI ex5 ?_
    refine v_istore_n F dX8_admit_95 rfl (Nat.le_of_ble_eq_true rfl) (L' := [mA o, mI v1, mI v2, mI x5]) rfl ?_
    refine v_aload_n F dX8_admit_96 rfl rfl ?_
    refine gf_X8_110 F dX8_admit_97 hp (v := (o + 235)) rfl ?_
    refine v_iload_n F dX8_admit_100 rfl rfl ?_
    refine v_dup2_IA F dX8_admit_101 ?_
    obtain ⟨hi6, h⟩ := ck_some h
    refine v_zald F dX8_admit_102 (ar_X8_45 hX hp) hi6 ?_
    refine v_iload_n F dX8_admit_103 rfl rfl ?_
    refine v_if_ne F dX8_admit_104 rfl (fun hq7 => ?_) (fun hq7 => ?_)
    · rw [if_neg hq7] at h
      refine v_iconst F dX8_admit_111 ⟨by decide, by decide⟩ ?_
      exact fX8_admit_112_ok F hX hp h K
    · rw [if_pos hq7] at h
      refine v_iconst F dX8_admit_107 ⟨by decide, by decide⟩ ?_
      refine v_goto F dX8_admit_108 rfl ?_
      exact fX8_admit_112_ok F hX hp h K
theorem fX8_admit_81_ok {w : Wd} {l : Launch} {G : Cx} {d m dd : Dt} {o v1 v2 : Int} {d' : Dt} {x : Dt} (F : Fx w G cX8_admit RX8 4 none { frames := 0, cells := 0, slots := 0, locals := 0 }) (hX : WF dd m) (hp : PB m o 8) (h : fX8_admit_81 d o v1 v2 = some x) (K : (fun q => q = d') x) : V w l WF G (QM w G WF none d' m 0 0) d m 0 0 81 [mA o, mI v1, mI v2, mU] [] := by
  unfold fX8_admit_81 at h
  exact loop_ok (P := fX8_admit_81P w l G (QM w G WF none d' m 0 0) m o v1) (fun s x hx h1 h2 => fX8_admit_81f_ok F hX hp hx (by
    cases x with
    | inl s' => exact h1 s' rfl
    | inr z => cases h2 z rfl; exact K)) h
theorem fX8_admit_63_ok {w : Wd} {l : Launch} {G : Cx} {d m dd : Dt} {o v1 v2 v3 s1 s2 : Int} {d' : Dt} {x : ((Dt × Int × Int) ⊕ Dt)} (F : Fx w G cX8_admit RX8 4 none { frames := 0, cells := 0, slots := 0, locals := 0 }) (hX : WF dd m) (hp : PB m o 8) (h : fX8_admit_63 d o v1 v2 v3 s1 s2 = some x) (K : (Sum.elim (fX8_admit_9P w l G (QM w G WF none d' m 0 0) m o) (fun q => q = d')) x) : V w l WF G (QM w G WF none d' m 0 0) d m 0 0 63 [mA o, mI v1, mI v2, mI v3] [mI s2, mI s1, mA (o + 235)] := by
  unfold fX8_admit_63 at h
  obtain ⟨hi24, h⟩ := ck_some h
  obtain ⟨d25, ed25, h⟩ := sd_some h
  refine v_zast F dX8_admit_63 (ar_X8_45 hX hp) hi24 ?_
  refine v_nD ed25 ?_
  refine v_iload_n F dX8_admit_64 rfl rfl ?_
  refine v_aload_n F dX8_admit_65 rfl rfl ?_
  refine gf_X8_110 F dX8_admit_66 hp (v := (o + 235)) rfl ?_
  refine v_iload_n F dX8_admit_69 rfl rfl ?_
  obtain ⟨hi26, h⟩ := ck_some h
  refine v_zald F dX8_admit_70 (ar_X8_45 hX hp) hi26 ?_
  refine v_ior F dX8_admit_71 ?_
  obtain ⟨x27, ex27, h⟩ := lv_some h
  refine v_nI ex27 ?_
  refine v_istore_n F dX8_admit_72 rfl (Nat.le_of_ble_eq_true rfl) (L' := [mA o, mI x27, mI v2, mI v3]) rfl ?_
  obtain ⟨x28, ex28, h⟩ := lv_some h
  refine v_iincN F dX8_admit_73 (Nat.le_of_ble_eq_true rfl) rfl ex28 (L' := [mA o, mI x27, mI x28, mI v3]) rfl ?_
  refine v_goto F dX8_admit_76 rfl ?_
  cases h
  refine v_fgt (L' := [mA o, mI x27, mI x28, mU]) ⟨Or.inl rfl, Or.inl rfl, Or.inl rfl, Or.inr rfl, trivial⟩ ?_
  exact K
theorem fX8_admit_9f_ok {w : Wd} {l : Launch} {G : Cx} {m dd : Dt} {o : Int} {d' : Dt} {s : Dt × Int × Int} {x : ((Dt × Int × Int) ⊕ Dt)} (F : Fx w G cX8_admit RX8 4 none { frames := 0, cells := 0, slots := 0, locals := 0 }) (hX : WF dd m) (hp : PB m o 8) (h : fX8_admit_9f o s = some x) (K : (Sum.elim (fX8_admit_9P w l G (QM w G WF none d' m 0 0) m o) (fun q => q = d')) x) : V w l WF G (QM w G WF none d' m 0 0) s.1 m 0 0 9 [mA o, mI (s.2.1), mI (s.2.2), mU] [] := by
  obtain ⟨d, v1, v2⟩ := s
  unfold fX8_admit_9f at h
  dsimp only at h
  refine v_iload_n F dX8_admit_9 rfl rfl ?_
  refine v_aload_n F dX8_admit_10 rfl rfl ?_
  refine gf_X8_416 F dX8_admit_11 hp ?_
  refine v_icmp_ge F dX8_admit_14 rfl (fun hq2 => ?_) (fun hq2 => ?_)
  · rw [if_pos hq2] at h
    obtain ⟨z, hu, ez⟩ := up_some h
    clear h
    subst ez
    have h := hu
    clear hu
    refine v_iconst F dX8_admit_79 ⟨by decide, by decide⟩ ?_
    refine v_istore_n F dX8_admit_80 rfl (Nat.le_of_ble_eq_true rfl) (L' := [mA o, mI v1, mI 0, mU]) rfl ?_
    exact fX8_admit_81_ok F hX hp h K
  · rw [if_neg hq2] at h
    refine v_aload_n F dX8_admit_17 rfl rfl ?_
    refine gf_X8_101 F dX8_admit_18 hp (v := (o + 232)) rfl ?_
    refine v_iload_n F dX8_admit_21 rfl rfl ?_
    obtain ⟨hi14, h⟩ := ck_some h
    refine v_iald F dX8_admit_22 (ar_X8_41 hX hp) hi14 ?_
    obtain ⟨x15, ex15, h⟩ := lv_some h
    refine v_nI ex15 ?_
    refine v_istore_n F dX8_admit_23 rfl (Nat.le_of_ble_eq_true rfl) (L' := [mA o, mI v1, mI v2, mI x15]) rfl ?_
    refine v_aload_n F dX8_admit_24 rfl rfl ?_
    refine gf_X8_110 F dX8_admit_25 hp (v := (o + 235)) rfl ?_
    refine v_iload_n F dX8_admit_28 rfl rfl ?_
    refine v_aload_n F dX8_admit_29 rfl rfl ?_
    refine gf_X8_104 F dX8_admit_30 hp (v := (o + 233)) rfl ?_
    refine v_iload_n F dX8_admit_33 rfl rfl ?_
    obtain ⟨hi16, h⟩ := ck_some h
    refine v_iald F dX8_admit_34 (ar_X8_43 hX hp) hi16 ?_
    refine v_aload_n F dX8_admit_35 rfl rfl ?_
    obtain ⟨x17, ex17, h⟩ := lv_some h
    obtain ⟨hn19, h⟩ := ck_some h
    refine gf_X8_131 F dX8_admit_36 hp ex17 fun hr18 => ?_
    have x17p := hr18.resolve_left hn19
    refine gf_X8_428 F dX8_admit_39 x17p ?_
    refine v_imul F dX8_admit_42 ?_
    refine v_aload_n F dX8_admit_43 rfl rfl ?_
    obtain ⟨x20, ex20, h⟩ := lv_some h
    obtain ⟨hn22, h⟩ := ck_some h
    refine gf_X8_131 F dX8_admit_44 hp ex20 fun hr21 => ?_
    have x20p := hr21.resolve_left hn22
    refine gf_X8_431 F dX8_admit_47 x20p ?_
    refine v_aload_n F dX8_admit_50 rfl rfl ?_
    refine gf_X8_155 F dX8_admit_51 hp ?_
    refine v_imul F dX8_admit_54 ?_
    refine v_icmp_lt F dX8_admit_55 rfl (fun hq23 => ?_) (fun hq23 => ?_)
    · rw [if_pos hq23] at h
      refine v_iconst F dX8_admit_62 ⟨by decide, by decide⟩ ?_
      exact fX8_admit_63_ok F hX hp h K
    · rw [if_neg hq23] at h
      refine v_iconst F dX8_admit_58 ⟨by decide, by decide⟩ ?_
      refine v_goto F dX8_admit_59 rfl ?_
      exact fX8_admit_63_ok F hX hp h K
theorem fX8_admit_9_ok {w : Wd} {l : Launch} {G : Cx} {d m dd : Dt} {o v1 v2 : Int} {d' : Dt} {x : Dt} (F : Fx w G cX8_admit RX8 4 none { frames := 0, cells := 0, slots := 0, locals := 0 }) (hX : WF dd m) (hp : PB m o 8) (h : fX8_admit_9 d o v1 v2 = some x) (K : (fun q => q = d') x) : V w l WF G (QM w G WF none d' m 0 0) d m 0 0 9 [mA o, mI v1, mI v2, mU] [] := by
  unfold fX8_admit_9 at h
  exact loop_ok (P := fX8_admit_9P w l G (QM w G WF none d' m 0 0) m o) (fun s x hx h1 h2 => fX8_admit_9f_ok F hX hp hx (by
    cases x with
    | inl s' => exact h1 s' rfl
    | inr z => cases h2 z rfl; exact K)) h
theorem vm_X8_admit {w : Wd} {l : Launch} {d m : Dt} {o : Int} {d' : Dt} (hp : PB m o 8) (h : fX8_admit d o = some d') : VM w l WF yX8_admit cX8_admit 4 none 0 0 0 0 d m [mA o] none d' m := by
  obtain ⟨x, h, K⟩ : ∃ x, fX8_admit d o = some x ∧ x = d' := ⟨_, h, rfl⟩
  refine VM.of (L := [mA o, mU, mU, mU]) (by decide +kernel) rfl (Nat.le_of_ble_eq_true rfl) fun G F _ => v_fact fun _ hX _ _ => ?_
  unfold fX8_admit at h
  refine v_aload_n F dX8_admit_0 rfl rfl ?_
  refine v_iconst F dX8_admit_1 ⟨by decide, by decide⟩ ?_
  obtain ⟨d1, ed1, h⟩ := sd_some h
  refine pf_X8_425 F dX8_admit_2 hp ?_
  refine v_nD ed1 ?_
  refine v_iconst F dX8_admit_5 ⟨by decide, by decide⟩ ?_
  refine v_istore_n F dX8_admit_6 rfl (Nat.le_of_ble_eq_true rfl) (L' := [mA o, mI 0, mU, mU]) rfl ?_
  refine v_iconst F dX8_admit_7 ⟨by decide, by decide⟩ ?_
  refine v_istore_n F dX8_admit_8 rfl (Nat.le_of_ble_eq_true rfl) (L' := [mA o, mI 0, mI 0, mU]) rfl ?_
  exact fX8_admit_9_ok F hX hp h K
theorem vm_X8_firstOf {w : Wd} {l : Launch} {d m : Dt} {o a1 : Int} {r : Int} (hp : PB m o 8) (h : fX8_firstOf d o a1 = some r) : VM w l WF yX8_firstOf cX8_firstOf 2 (some .int) 0 0 0 0 d m [mA o, mI a1] (some (mI r)) d m := by
  obtain ⟨x, h, K⟩ : ∃ x, fX8_firstOf d o a1 = some x ∧ x = r := ⟨_, h, rfl⟩
  refine VM.of (L := [mA o, mI a1]) (by decide +kernel) rfl (Nat.le_of_ble_eq_true rfl) fun G F _ => v_fact fun _ hX _ _ => ?_
  unfold fX8_firstOf at h
  refine v_aload_n F dX8_firstOf_0 rfl rfl ?_
  obtain ⟨x1, ex1, h⟩ := lv_some h
  obtain ⟨hn3, h⟩ := ck_some h
  refine gf_X8_135 F dX8_firstOf_1 hp ex1 fun hr2 => ?_
  have x1p := hr2.resolve_left hn3
  refine gf_X8_413 F dX8_firstOf_4 x1p (v := (x1 + 3)) rfl ?_
  refine v_iload_n F dX8_firstOf_7 rfl rfl ?_
  obtain ⟨hi4, h⟩ := ck_some h
  refine v_iald F dX8_firstOf_8 (ar_X9_3 hX x1p) hi4 ?_
  refine v_iconst F dX8_firstOf_9 ⟨by decide, by decide⟩ ?_
  refine v_icmp_ne F dX8_firstOf_10 rfl (fun hq5 => ?_) (fun hq5 => ?_)
  · rw [if_neg hq5] at h
    refine v_aload_n F dX8_firstOf_17 rfl rfl ?_
    refine gf_X8_122 F dX8_firstOf_18 hp (v := (o + 239)) rfl ?_
    refine v_aload_n F dX8_firstOf_21 rfl rfl ?_
    obtain ⟨x6, ex6, h⟩ := lv_some h
    obtain ⟨hn8, h⟩ := ck_some h
    refine gf_X8_135 F dX8_firstOf_22 hp ex6 fun hr7 => ?_
    have x6p := hr7.resolve_left hn8
    refine gf_X8_413 F dX8_firstOf_25 x6p (v := (x6 + 3)) rfl ?_
    refine v_iload_n F dX8_firstOf_28 rfl rfl ?_
    refine v_iald F dX8_firstOf_29 (ar_X9_3 hX x6p) hi4 ?_
    obtain ⟨x9, ex9, h⟩ := lv_some h
    refine v_nI ex9 ?_
    obtain ⟨hi10, h⟩ := ck_some h
    refine v_iald F dX8_firstOf_30 (ar_X8_50 hX hp) hi10 ?_
    cases h
    cases (show _ = r from K)
    exact v_iret F dX8_firstOf_31
  · rw [if_pos hq5] at h
    refine v_iconst F dX8_firstOf_13 ⟨by decide, by decide⟩ ?_
    refine v_goto F dX8_firstOf_14 rfl ?_
    cases h
    cases (show _ = r from K)
    exact v_iret F dX8_firstOf_31
theorem vm_X8_divisor {w : Wd} {l : Launch} {d m : Dt} {o a1 : Int} {r : Int} (hp : PB m o 8) (h : fX8_divisor d o a1 = some r) : VM w l WF yX8_divisor cX8_divisor 2 (some .int) 0 0 0 0 d m [mA o, mI a1] (some (mI r)) d m := by
  obtain ⟨x, h, K⟩ : ∃ x, fX8_divisor d o a1 = some x ∧ x = r := ⟨_, h, rfl⟩
  refine VM.of (L := [mA o, mI a1]) (by decide +kernel) rfl (Nat.le_of_ble_eq_true rfl) fun G F _ => v_fact fun _ hX _ _ => ?_
  unfold fX8_divisor at h
  refine v_aload_n F dX8_divisor_0 rfl rfl ?_
  obtain ⟨x1, ex1, h⟩ := lv_some h
  obtain ⟨hn3, h⟩ := ck_some h
  refine gf_X8_131 F dX8_divisor_1 hp ex1 fun hr2 => ?_
  have x1p := hr2.resolve_left hn3
  refine gf_X8_277 F dX8_divisor_4 x1p ?_
  obtain ⟨x4, ex4, h⟩ := lv_some h
  refine v_nI ex4 ?_
  by_cases hq5 : x4 = 0
  · rw [if_pos hq5] at h
    refine v_tableIn F dX8_divisor_7 hq5 (by decide) (by decide) rfl rfl ?_
    refine v_iload_n F dX8_divisor_36 rfl rfl ?_
    refine v_iconst F dX8_divisor_37 ⟨by decide, by decide⟩ ?_
    refine v_iadd F dX8_divisor_38 ?_
    cases h
    cases (show _ = r from K)
    exact v_iret F dX8_divisor_39
  · rw [if_neg hq5] at h
    by_cases hq6 : x4 = 1
    · rw [if_pos hq6] at h
      refine v_tableIn F dX8_divisor_7 hq6 (by decide) (by decide) rfl rfl ?_
      refine v_iconst F dX8_divisor_40 ⟨by decide, by decide⟩ ?_
      refine v_iload_n F dX8_divisor_41 rfl rfl ?_
      refine v_imul F dX8_divisor_42 ?_
      refine v_iconst F dX8_divisor_43 ⟨by decide, by decide⟩ ?_
      refine v_iadd F dX8_divisor_44 ?_
      cases h
      cases (show _ = r from K)
      exact v_iret F dX8_divisor_45
    · rw [if_neg hq6] at h
      by_cases hq7 : x4 = 2
      · rw [if_pos hq7] at h
        refine v_tableIn F dX8_divisor_7 hq7 (by decide) (by decide) rfl rfl ?_
        refine v_iconst F dX8_divisor_46 ⟨by decide, by decide⟩ ?_
        refine v_iload_n F dX8_divisor_47 rfl rfl ?_
        refine v_imul F dX8_divisor_48 ?_
        refine v_iconst F dX8_divisor_49 ⟨by decide, by decide⟩ ?_
        refine v_iadd F dX8_divisor_50 ?_
        cases h
        cases (show _ = r from K)
        exact v_iret F dX8_divisor_51
      · rw [if_neg hq7] at h
        by_cases hq8 : x4 = 3
        · rw [if_pos hq8] at h
          refine v_tableIn F dX8_divisor_7 hq8 (by decide) (by decide) rfl rfl ?_
          refine v_iload_n F dX8_divisor_52 rfl rfl ?_
          refine v_iconst F dX8_divisor_53 ⟨by decide, by decide⟩ ?_
          refine v_iadd F dX8_divisor_54 ?_
          cases h
          cases (show _ = r from K)
          exact v_iret F dX8_divisor_55
        · rw [if_neg hq8] at h
          refine v_tableOut F dX8_divisor_7 (by omega) rfl ?_
          refine v_iload_n F dX8_divisor_56 rfl rfl ?_
          refine v_if_ne F dX8_divisor_57 rfl (fun hq9 => ?_) (fun hq9 => ?_)
          · rw [if_neg hq9] at h
            refine v_bipush F dX8_divisor_65 rfl ⟨by decide, by decide⟩ ?_
            refine v_iload_n F dX8_divisor_67 rfl rfl ?_
            refine v_imul F dX8_divisor_68 ?_
            refine v_bipush F dX8_divisor_69 rfl ⟨by decide, by decide⟩ ?_
            refine v_iadd F dX8_divisor_71 ?_
            cases h
            cases (show _ = r from K)
            exact v_iret F dX8_divisor_72
          · rw [if_pos hq9] at h
            refine v_bipush F dX8_divisor_60 rfl ⟨by decide, by decide⟩ ?_
            refine v_goto F dX8_divisor_62 rfl ?_
            cases h
            cases (show _ = r from K)
            exact v_iret F dX8_divisor_72
def fX8_byDivisors_5P (w : Wd) (l : Launch) (G : Cx) (Q : State → Prop) (m : Dt) (o a1 a2 : Int) (s : Dt × Int × Int) : Prop := V w l WF G Q s.1 m 0 0 5 [mA o, mI a1, mI a2, mI (s.2.1), mI (s.2.2), mU, mU, mU, mU] []
def fX8_byDivisors_21P (w : Wd) (l : Launch) (G : Cx) (Q : State → Prop) (m : Dt) (d : Dt) (o a1 a2 v4 : Int) (s : Int × Int) : Prop := V w l WF G Q d m 0 0 21 [mA o, mI a1, mI a2, mU, mI v4, mI (s.1), mI (s.2), mU, mU] []
theorem fX8_byDivisors_150_ok {w : Wd} {l : Launch} {G : Cx} {d m dd : Dt} {o a1 a2 v4 v5 s0 : Int} {d' : Dt} {x : ((Dt × Int × Int) ⊕ Dt)} (F : Fx w G cX8_byDivisors RX8 9 none { frames := 1, cells := 0, slots := 0, locals := 21 }) (hX : WF dd m) (hp : PB m o 8) (h : fX8_byDivisors_150 d o a1 a2 v4 v5 s0 = some x) (K : (Sum.elim (fX8_byDivisors_5P w l G (QM w G WF none d' m 0 0) m o a1 a2) (fun q => q = d')) x) : V w l WF G (QM w G WF none d' m 0 0) d m 0 0 150 [mA o, mI a1, mI a2, mU, mI v4, mI v5, mU, mU, mU] [mI s0] := by
  unfold fX8_byDivisors_150 at h
  refine v_istore_n F dX8_byDivisors_150 rfl (Nat.le_of_ble_eq_true rfl) (L' := [mA o, mI a1, mI a2, mI s0, mI v4, mI v5, mU, mU, mU]) rfl ?_
  refine v_iload_n F dX8_byDivisors_151 rfl rfl ?_
  refine v_if_eq F dX8_byDivisors_152 rfl (fun hq5 => ?_) (fun hq5 => ?_)
  · rw [if_pos hq5] at h
    obtain ⟨x6, ex6, h⟩ := lv_some h
    refine v_iincN F dX8_byDivisors_166 (Nat.le_of_ble_eq_true rfl) rfl ex6 (L' := [mA o, mI a1, mI a2, mI s0, mI x6, mI v5, mU, mU, mU]) rfl ?_
    refine v_goto F dX8_byDivisors_169 rfl ?_
    cases h
    refine v_fgt (L' := [mA o, mI a1, mI a2, mI s0, mI x6, mU, mU, mU, mU]) ⟨Or.inl rfl, Or.inl rfl, Or.inl rfl, Or.inl rfl, Or.inl rfl, Or.inr rfl, Or.inl rfl, Or.inl rfl, Or.inl rfl, trivial⟩ ?_
    exact K
  · rw [if_neg hq5] at h
    refine v_aload_n F dX8_byDivisors_155 rfl rfl ?_
    refine gf_X8_113 F dX8_byDivisors_156 hp (v := (o + 236)) rfl ?_
    refine v_iload F dX8_byDivisors_159 rfl ?_
    refine v_dup2_IA F dX8_byDivisors_161 ?_
    obtain ⟨hi7, h⟩ := ck_some h
    refine v_iald F dX8_byDivisors_162 (ar_X8_46 hX hp) hi7 ?_
    refine v_iconst F dX8_byDivisors_163 ⟨by decide, by decide⟩ ?_
    refine v_iadd F dX8_byDivisors_164 ?_
    obtain ⟨d8, ed8, h⟩ := sd_some h
    refine v_iast F dX8_byDivisors_165 (ar_X8_46 hX hp) hi7 ?_
    refine v_nD ed8 ?_
    obtain ⟨x9, ex9, h⟩ := lv_some h
    refine v_iincN F dX8_byDivisors_166 (Nat.le_of_ble_eq_true rfl) rfl ex9 (L' := [mA o, mI a1, mI a2, mI s0, mI x9, mI v5, mU, mU, mU]) rfl ?_
    refine v_goto F dX8_byDivisors_169 rfl ?_
    cases h
    refine v_fgt (L' := [mA o, mI a1, mI a2, mI s0, mI x9, mU, mU, mU, mU]) ⟨Or.inl rfl, Or.inl rfl, Or.inl rfl, Or.inl rfl, Or.inl rfl, Or.inr rfl, Or.inl rfl, Or.inl rfl, Or.inl rfl, trivial⟩ ?_
    exact K
theorem fX8_byDivisors_75_ok {w : Wd} {l : Launch} {G : Cx} {d m dd : Dt} {o a1 a2 v4 v5 v6 v7 s0 : Int} {d' : Dt} {x : ((Int × Int) ⊕ ((Dt × Int × Int) ⊕ Dt))} (F : Fx w G cX8_byDivisors RX8 9 none { frames := 1, cells := 0, slots := 0, locals := 21 }) (hX : WF dd m) (hp : PB m o 8) (h : fX8_byDivisors_75 d o a1 a2 v4 v5 v6 v7 s0 = some x) (K : (Sum.elim (fX8_byDivisors_21P w l G (QM w G WF none d' m 0 0) m d o a1 a2 v4) (Sum.elim (fX8_byDivisors_5P w l G (QM w G WF none d' m 0 0) m o a1 a2) (fun q => q = d'))) x) : V w l WF G (QM w G WF none d' m 0 0) d m 0 0 75 [mA o, mI a1, mI a2, mU, mI v4, mI v5, mI v6, mI v7, mU] [mI s0] := by
  unfold fX8_byDivisors_75 at h
  refine v_istore F dX8_byDivisors_75 (Nat.le_of_ble_eq_true rfl) (L' := [mA o, mI a1, mI a2, mU, mI v4, mI v5, mI v6, mI v7, mI s0]) rfl ?_
  refine v_iload F dX8_byDivisors_77 rfl ?_
  refine v_if_eq F dX8_byDivisors_79 rfl (fun hq14 => ?_) (fun hq14 => ?_)
  · rw [if_pos hq14] at h
    obtain ⟨x15, ex15, h⟩ := lv_some h
    refine v_iincN F dX8_byDivisors_133 (Nat.le_of_ble_eq_true rfl) rfl ex15 (L' := [mA o, mI a1, mI a2, mU, mI v4, mI v5, mI x15, mI v7, mI s0]) rfl ?_
    refine v_goto F dX8_byDivisors_136 rfl ?_
    cases h
    refine v_fgt (L' := [mA o, mI a1, mI a2, mU, mI v4, mI v5, mI x15, mU, mU]) ⟨Or.inl rfl, Or.inl rfl, Or.inl rfl, Or.inl rfl, Or.inl rfl, Or.inl rfl, Or.inl rfl, Or.inr rfl, Or.inr rfl, trivial⟩ ?_
    exact K
  · rw [if_neg hq14] at h
    refine v_iload F dX8_byDivisors_82 rfl ?_
    refine v_iconst F dX8_byDivisors_84 ⟨by decide, by decide⟩ ?_
    refine v_icmp_eq F dX8_byDivisors_85 rfl (fun hq16 => ?_) (fun hq16 => ?_)
    · rw [if_pos hq16] at h
      refine v_iload F dX8_byDivisors_129 rfl ?_
      refine v_istore F dX8_byDivisors_131 (Nat.le_of_ble_eq_true rfl) (L' := [mA o, mI a1, mI a2, mU, mI v4, mI v7, mI v6, mI v7, mI s0]) rfl ?_
      obtain ⟨x17, ex17, h⟩ := lv_some h
      refine v_iincN F dX8_byDivisors_133 (Nat.le_of_ble_eq_true rfl) rfl ex17 (L' := [mA o, mI a1, mI a2, mU, mI v4, mI v7, mI x17, mI v7, mI s0]) rfl ?_
      refine v_goto F dX8_byDivisors_136 rfl ?_
      cases h
      refine v_fgt (L' := [mA o, mI a1, mI a2, mU, mI v4, mI v7, mI x17, mU, mU]) ⟨Or.inl rfl, Or.inl rfl, Or.inl rfl, Or.inl rfl, Or.inl rfl, Or.inl rfl, Or.inl rfl, Or.inr rfl, Or.inr rfl, trivial⟩ ?_
      exact K
    · rw [if_neg hq16] at h
      refine v_aload_n F dX8_byDivisors_88 rfl rfl ?_
      refine gf_X8_104 F dX8_byDivisors_89 hp (v := (o + 233)) rfl ?_
      refine v_iload F dX8_byDivisors_92 rfl ?_
      obtain ⟨hi18, h⟩ := ck_some h
      refine v_iald F dX8_byDivisors_94 (ar_X8_43 hX hp) hi18 ?_
      refine v_aload_n F dX8_byDivisors_95 rfl rfl ?_
      refine v_aload_n F dX8_byDivisors_96 rfl rfl ?_
      refine gf_X8_113 F dX8_byDivisors_97 hp (v := (o + 236)) rfl ?_
      refine v_iload F dX8_byDivisors_100 rfl ?_
      obtain ⟨hi19, h⟩ := ck_some h
      refine v_iald F dX8_byDivisors_102 (ar_X8_46 hX hp) hi19 ?_
      obtain ⟨x20, hc21, h⟩ := b1_some h
      refine v_callVv (c := 8) F dX8_byDivisors_103 cv_X8_433 rfl (PB.ob hp hX (Nat.le_of_ble_eq_true rfl)) (Nat.le_of_ble_eq_true rfl) rfl (vm_X8_divisor hp hc21) rfl (rOk.of rfl) ?_
      refine v_imul F dX8_byDivisors_106 ?_
      refine v_aload_n F dX8_byDivisors_107 rfl rfl ?_
      refine gf_X8_104 F dX8_byDivisors_108 hp (v := (o + 233)) rfl ?_
      refine v_iload F dX8_byDivisors_111 rfl ?_
      refine v_iald F dX8_byDivisors_113 (ar_X8_43 hX hp) hi19 ?_
      refine v_aload_n F dX8_byDivisors_114 rfl rfl ?_
      refine v_aload_n F dX8_byDivisors_115 rfl rfl ?_
      refine gf_X8_113 F dX8_byDivisors_116 hp (v := (o + 236)) rfl ?_
      refine v_iload F dX8_byDivisors_119 rfl ?_
      refine v_iald F dX8_byDivisors_121 (ar_X8_46 hX hp) hi18 ?_
      obtain ⟨x22, hc23, h⟩ := b1_some h
      refine v_callVv (c := 8) F dX8_byDivisors_122 cv_X8_433 rfl (PB.ob hp hX (Nat.le_of_ble_eq_true rfl)) (Nat.le_of_ble_eq_true rfl) rfl (vm_X8_divisor hp hc23) rfl (rOk.of rfl) ?_
      refine v_imul F dX8_byDivisors_125 ?_
      refine v_icmp_le F dX8_byDivisors_126 rfl (fun hq24 => ?_) (fun hq24 => ?_)
      · rw [if_pos hq24] at h
        obtain ⟨x25, ex25, h⟩ := lv_some h
        refine v_iincN F dX8_byDivisors_133 (Nat.le_of_ble_eq_true rfl) rfl ex25 (L' := [mA o, mI a1, mI a2, mU, mI v4, mI v5, mI x25, mI v7, mI s0]) rfl ?_
        refine v_goto F dX8_byDivisors_136 rfl ?_
        cases h
        refine v_fgt (L' := [mA o, mI a1, mI a2, mU, mI v4, mI v5, mI x25, mU, mU]) ⟨Or.inl rfl, Or.inl rfl, Or.inl rfl, Or.inl rfl, Or.inl rfl, Or.inl rfl, Or.inl rfl, Or.inr rfl, Or.inr rfl, trivial⟩ ?_
        exact K
      · rw [if_neg hq24] at h
        refine v_iload F dX8_byDivisors_129 rfl ?_
        refine v_istore F dX8_byDivisors_131 (Nat.le_of_ble_eq_true rfl) (L' := [mA o, mI a1, mI a2, mU, mI v4, mI v7, mI v6, mI v7, mI s0]) rfl ?_
        obtain ⟨x26, ex26, h⟩ := lv_some h
        refine v_iincN F dX8_byDivisors_133 (Nat.le_of_ble_eq_true rfl) rfl ex26 (L' := [mA o, mI a1, mI a2, mU, mI v4, mI v7, mI x26, mI v7, mI s0]) rfl ?_
        refine v_goto F dX8_byDivisors_136 rfl ?_
        cases h
        refine v_fgt (L' := [mA o, mI a1, mI a2, mU, mI v4, mI v7, mI x26, mU, mU]) ⟨Or.inl rfl, Or.inl rfl, Or.inl rfl, Or.inl rfl, Or.inl rfl, Or.inl rfl, Or.inl rfl, Or.inr rfl, Or.inr rfl, trivial⟩ ?_
        exact K
theorem fX8_byDivisors_21f_ok {w : Wd} {l : Launch} {G : Cx} {d m dd : Dt} {o a1 a2 v4 : Int} {d' : Dt} {s : Int × Int} {x : ((Int × Int) ⊕ ((Dt × Int × Int) ⊕ Dt))} (F : Fx w G cX8_byDivisors RX8 9 none { frames := 1, cells := 0, slots := 0, locals := 21 }) (hX : WF dd m) (hp : PB m o 8) (h : fX8_byDivisors_21f d o a1 a2 v4 s = some x) (K : (Sum.elim (fX8_byDivisors_21P w l G (QM w G WF none d' m 0 0) m d o a1 a2 v4) (Sum.elim (fX8_byDivisors_5P w l G (QM w G WF none d' m 0 0) m o a1 a2) (fun q => q = d'))) x) : V w l WF G (QM w G WF none d' m 0 0) d m 0 0 21 [mA o, mI a1, mI a2, mU, mI v4, mI (s.1), mI (s.2), mU, mU] [] := by
  obtain ⟨v5, v6⟩ := s
  unfold fX8_byDivisors_21f at h
  dsimp only at h
  refine v_iload F dX8_byDivisors_21 rfl ?_
  refine v_aload_n F dX8_byDivisors_23 rfl rfl ?_
  refine gf_X8_416 F dX8_byDivisors_24 hp ?_
  refine v_icmp_ge F dX8_byDivisors_27 rfl (fun hq3 => ?_) (fun hq3 => ?_)
  · rw [if_pos hq3] at h
    obtain ⟨z, hu, ez⟩ := up_some h
    clear h
    subst ez
    have h := hu
    clear hu
    refine v_iload F dX8_byDivisors_139 rfl ?_
    refine v_iconst F dX8_byDivisors_141 ⟨by decide, by decide⟩ ?_
    refine v_icmp_eq F dX8_byDivisors_142 rfl (fun hq4 => ?_) (fun hq4 => ?_)
    · rw [if_pos hq4] at h
      refine v_iconst F dX8_byDivisors_149 ⟨by decide, by decide⟩ ?_
      refine v_fgt (L' := [mA o, mI a1, mI a2, mU, mI v4, mI v5, mU, mU, mU]) ⟨Or.inl rfl, Or.inl rfl, Or.inl rfl, Or.inl rfl, Or.inl rfl, Or.inl rfl, Or.inr rfl, Or.inl rfl, Or.inl rfl, trivial⟩ ?_
      exact fX8_byDivisors_150_ok F hX hp h K
    · rw [if_neg hq4] at h
      refine v_iconst F dX8_byDivisors_145 ⟨by decide, by decide⟩ ?_
      refine v_goto F dX8_byDivisors_146 rfl ?_
      refine v_fgt (L' := [mA o, mI a1, mI a2, mU, mI v4, mI v5, mU, mU, mU]) ⟨Or.inl rfl, Or.inl rfl, Or.inl rfl, Or.inl rfl, Or.inl rfl, Or.inl rfl, Or.inr rfl, Or.inl rfl, Or.inl rfl, trivial⟩ ?_
      exact fX8_byDivisors_150_ok F hX hp h K
  · rw [if_neg hq3] at h
    refine v_aload_n F dX8_byDivisors_30 rfl rfl ?_
    refine gf_X8_101 F dX8_byDivisors_31 hp (v := (o + 232)) rfl ?_
    refine v_iload F dX8_byDivisors_34 rfl ?_
    obtain ⟨hi10, h⟩ := ck_some h
    refine v_iald F dX8_byDivisors_36 (ar_X8_41 hX hp) hi10 ?_
    obtain ⟨x11, ex11, h⟩ := lv_some h
    refine v_nI ex11 ?_
    refine v_istore F dX8_byDivisors_37 (Nat.le_of_ble_eq_true rfl) (L' := [mA o, mI a1, mI a2, mU, mI v4, mI v5, mI v6, mI x11, mU]) rfl ?_
    refine v_aload_n F dX8_byDivisors_39 rfl rfl ?_
    refine gf_X8_110 F dX8_byDivisors_40 hp (v := (o + 235)) rfl ?_
    refine v_iload F dX8_byDivisors_43 rfl ?_
    obtain ⟨hi12, h⟩ := ck_some h
    refine v_zald F dX8_byDivisors_45 (ar_X8_45 hX hp) hi12 ?_
    refine v_if_eq F dX8_byDivisors_46 rfl (fun hq13 => ?_) (fun hq13 => ?_)
    · rw [if_pos hq13] at h
      refine v_iconst F dX8_byDivisors_74 ⟨by decide, by decide⟩ ?_
      exact fX8_byDivisors_75_ok F hX hp h K
    · rw [if_neg hq13] at h
      refine v_iload_n F dX8_byDivisors_49 rfl rfl ?_
      refine v_if_eq F dX8_byDivisors_50 rfl (fun hq27 => ?_) (fun hq27 => ?_)
      · rw [if_pos hq27] at h
        refine v_iconst F dX8_byDivisors_70 ⟨by decide, by decide⟩ ?_
        refine v_goto F dX8_byDivisors_71 rfl ?_
        exact fX8_byDivisors_75_ok F hX hp h K
      · rw [if_neg hq27] at h
        refine v_aload_n F dX8_byDivisors_53 rfl rfl ?_
        refine gf_X8_113 F dX8_byDivisors_54 hp (v := (o + 236)) rfl ?_
        refine v_iload F dX8_byDivisors_57 rfl ?_
        refine v_iald F dX8_byDivisors_59 (ar_X8_46 hX hp) hi12 ?_
        refine v_aload_n F dX8_byDivisors_60 rfl rfl ?_
        refine gf_X8_107 F dX8_byDivisors_61 hp (v := (o + 234)) rfl ?_
        refine v_iload F dX8_byDivisors_64 rfl ?_
        refine v_iald F dX8_byDivisors_66 (ar_X8_44 hX hp) hi12 ?_
        refine v_icmp_ge F dX8_byDivisors_67 rfl (fun hq28 => ?_) (fun hq28 => ?_)
        · rw [if_pos hq28] at h
          refine v_iconst F dX8_byDivisors_74 ⟨by decide, by decide⟩ ?_
          exact fX8_byDivisors_75_ok F hX hp h K
        · rw [if_neg hq28] at h
          refine v_iconst F dX8_byDivisors_70 ⟨by decide, by decide⟩ ?_
          refine v_goto F dX8_byDivisors_71 rfl ?_
          exact fX8_byDivisors_75_ok F hX hp h K
theorem fX8_byDivisors_21_ok {w : Wd} {l : Launch} {G : Cx} {d m dd : Dt} {o a1 a2 v4 v5 v6 : Int} {d' : Dt} {x : ((Dt × Int × Int) ⊕ Dt)} (F : Fx w G cX8_byDivisors RX8 9 none { frames := 1, cells := 0, slots := 0, locals := 21 }) (hX : WF dd m) (hp : PB m o 8) (h : fX8_byDivisors_21 d o a1 a2 v4 v5 v6 = some x) (K : (Sum.elim (fX8_byDivisors_5P w l G (QM w G WF none d' m 0 0) m o a1 a2) (fun q => q = d')) x) : V w l WF G (QM w G WF none d' m 0 0) d m 0 0 21 [mA o, mI a1, mI a2, mU, mI v4, mI v5, mI v6, mU, mU] [] := by
  unfold fX8_byDivisors_21 at h
  exact loop_ok (P := fX8_byDivisors_21P w l G (QM w G WF none d' m 0 0) m d o a1 a2 v4) (fun s x hx h1 h2 => fX8_byDivisors_21f_ok F hX hp hx (by
    cases x with
    | inl s' => exact h1 s' rfl
    | inr z => cases h2 z rfl; exact K)) h
theorem fX8_byDivisors_5f_ok {w : Wd} {l : Launch} {G : Cx} {m dd : Dt} {o a1 a2 : Int} {d' : Dt} {s : Dt × Int × Int} {x : ((Dt × Int × Int) ⊕ Dt)} (F : Fx w G cX8_byDivisors RX8 9 none { frames := 1, cells := 0, slots := 0, locals := 21 }) (hX : WF dd m) (hp : PB m o 8) (h : fX8_byDivisors_5f o a1 a2 s = some x) (K : (Sum.elim (fX8_byDivisors_5P w l G (QM w G WF none d' m 0 0) m o a1 a2) (fun q => q = d')) x) : V w l WF G (QM w G WF none d' m 0 0) s.1 m 0 0 5 [mA o, mI a1, mI a2, mI (s.2.1), mI (s.2.2), mU, mU, mU, mU] [] := by
  obtain ⟨d, v3, v4⟩ := s
  unfold fX8_byDivisors_5f at h
  dsimp only at h
  refine v_iload F dX8_byDivisors_5 rfl ?_
  refine v_iload_n F dX8_byDivisors_7 rfl rfl ?_
  refine v_icmp_ge F dX8_byDivisors_8 rfl (fun hq1 => ?_) (fun hq1 => ?_)
  · rw [if_pos hq1] at h
    obtain ⟨z, hu, ez⟩ := up_some h
    clear h
    subst ez
    have h := hu
    clear hu
    cases h
    cases (show _ = d' from K)
    exact v_vret F dX8_byDivisors_172
  · rw [if_neg hq1] at h
    refine v_iload_n F dX8_byDivisors_11 rfl rfl ?_
    refine v_if_eq F dX8_byDivisors_12 rfl (fun hq2 => ?_) (fun hq2 => ?_)
    · rw [if_pos hq2] at h
      obtain ⟨z, hu, ez⟩ := up_some h
      clear h
      subst ez
      have h := hu
      clear hu
      cases h
      cases (show _ = d' from K)
      exact v_vret F dX8_byDivisors_172
    · rw [if_neg hq2] at h
      refine v_iconst F dX8_byDivisors_15 ⟨by decide, by decide⟩ ?_
      refine v_istore F dX8_byDivisors_16 (Nat.le_of_ble_eq_true rfl) (L' := [mA o, mI a1, mI a2, mI v3, mI v4, mI (-1), mU, mU, mU]) rfl ?_
      refine v_iconst F dX8_byDivisors_18 ⟨by decide, by decide⟩ ?_
      refine v_istore F dX8_byDivisors_19 (Nat.le_of_ble_eq_true rfl) (L' := [mA o, mI a1, mI a2, mI v3, mI v4, mI (-1), mI 0, mU, mU]) rfl ?_
      refine v_fgt (L' := [mA o, mI a1, mI a2, mU, mI v4, mI (-1), mI 0, mU, mU]) ⟨Or.inl rfl, Or.inl rfl, Or.inl rfl, Or.inr rfl, Or.inl rfl, Or.inl rfl, Or.inl rfl, Or.inl rfl, Or.inl rfl, trivial⟩ ?_
      exact fX8_byDivisors_21_ok F hX hp h K
theorem fX8_byDivisors_5_ok {w : Wd} {l : Launch} {G : Cx} {d m dd : Dt} {o a1 a2 v3 v4 : Int} {d' : Dt} {x : Dt} (F : Fx w G cX8_byDivisors RX8 9 none { frames := 1, cells := 0, slots := 0, locals := 21 }) (hX : WF dd m) (hp : PB m o 8) (h : fX8_byDivisors_5 d o a1 a2 v3 v4 = some x) (K : (fun q => q = d') x) : V w l WF G (QM w G WF none d' m 0 0) d m 0 0 5 [mA o, mI a1, mI a2, mI v3, mI v4, mU, mU, mU, mU] [] := by
  unfold fX8_byDivisors_5 at h
  exact loop_ok (P := fX8_byDivisors_5P w l G (QM w G WF none d' m 0 0) m o a1 a2) (fun s x hx h1 h2 => fX8_byDivisors_5f_ok F hX hp hx (by
    cases x with
    | inl s' => exact h1 s' rfl
    | inr z => cases h2 z rfl; exact K)) h
theorem vm_X8_byDivisors {w : Wd} {l : Launch} {d m : Dt} {o a1 a2 : Int} {d' : Dt} (hp : PB m o 8) (h : fX8_byDivisors d o a1 a2 = some d') : VM w l WF yX8_byDivisors cX8_byDivisors 9 none 1 21 0 0 d m [mA o, mI a1, mI a2] none d' m := by
  obtain ⟨x, h, K⟩ : ∃ x, fX8_byDivisors d o a1 a2 = some x ∧ x = d' := ⟨_, h, rfl⟩
  refine VM.of (L := [mA o, mI a1, mI a2, mU, mU, mU, mU, mU, mU]) (by decide +kernel) rfl (Nat.le_of_ble_eq_true rfl) fun G F _ => v_fact fun _ hX _ _ => ?_
  unfold fX8_byDivisors at h
  refine v_iconst F dX8_byDivisors_0 ⟨by decide, by decide⟩ ?_
  refine v_istore_n F dX8_byDivisors_1 rfl (Nat.le_of_ble_eq_true rfl) (L' := [mA o, mI a1, mI a2, mI 1, mU, mU, mU, mU, mU]) rfl ?_
  refine v_iconst F dX8_byDivisors_2 ⟨by decide, by decide⟩ ?_
  refine v_istore F dX8_byDivisors_3 (Nat.le_of_ble_eq_true rfl) (L' := [mA o, mI a1, mI a2, mI 1, mI 0, mU, mU, mU, mU]) rfl ?_
  exact fX8_byDivisors_5_ok F hX hp h K
def fX8_sortRemainders_4P (w : Wd) (l : Launch) (G : Cx) (Q : State → Prop) (m : Dt) (o : Int) (s : Dt × Int × Int) : Prop := V w l WF G Q s.1 m 0 0 4 [mA o, mI (s.2.1), mI (s.2.2), mU, mU] []
def fX8_sortRemainders_31P (w : Wd) (l : Launch) (G : Cx) (Q : State → Prop) (m : Dt) (o v1 v2 v3 : Int) (s : Dt × Int) : Prop := V w l WF G Q s.1 m 0 0 31 [mA o, mI v1, mI v2, mI v3, mI (s.2)] []
theorem fX8_sortRemainders_81_ok {w : Wd} {l : Launch} {G : Cx} {d m dd : Dt} {o v1 v2 v3 v4 : Int} {d' : Dt} {r : Int} {x : ((Dt × Int × Int) ⊕ (Dt × Int))} (F : Fx w G cX8_sortRemainders RX8 5 (some .int) { frames := 0, cells := 0, slots := 0, locals := 0 }) (hX : WF dd m) (hp : PB m o 8) (h : fX8_sortRemainders_81 d o v1 v2 v3 v4 = some x) (K : (Sum.elim (fX8_sortRemainders_4P w l G (QM w G WF (some (mI r)) d' m 0 0) m o) (fun q => q = (d', r))) x) : V w l WF G (QM w G WF (some (mI r)) d' m 0 0) d m 0 0 81 [mA o, mI v1, mI v2, mI v3, mI v4] [] := by
  unfold fX8_sortRemainders_81 at h
  refine v_aload_n F dX8_sortRemainders_81 rfl rfl ?_
  refine gf_X8_119 F dX8_sortRemainders_82 hp (v := (o + 238)) rfl ?_
  refine v_iload F dX8_sortRemainders_85 rfl ?_
  refine v_iload_n F dX8_sortRemainders_87 rfl rfl ?_
  obtain ⟨hi8, h⟩ := ck_some h
  obtain ⟨d9, ed9, h⟩ := sd_some h
  refine v_iast F dX8_sortRemainders_88 (ar_X8_48 hX hp) hi8 ?_
  refine v_nD ed9 ?_
  obtain ⟨x10, ex10, h⟩ := lv_some h
  refine v_iincN F dX8_sortRemainders_89 (Nat.le_of_ble_eq_true rfl) rfl ex10 (L' := [mA o, mI x10, mI v2, mI v3, mI v4]) rfl ?_
  obtain ⟨x11, ex11, h⟩ := lv_some h
  refine v_iincN F dX8_sortRemainders_92 (Nat.le_of_ble_eq_true rfl) rfl ex11 (L' := [mA o, mI x10, mI x11, mI v3, mI v4]) rfl ?_
  refine v_goto F dX8_sortRemainders_95 rfl ?_
  cases h
  refine v_fgt (L' := [mA o, mI x10, mI x11, mU, mU]) ⟨Or.inl rfl, Or.inl rfl, Or.inl rfl, Or.inr rfl, Or.inr rfl, trivial⟩ ?_
  exact K
theorem fX8_sortRemainders_31f_ok {w : Wd} {l : Launch} {G : Cx} {m dd : Dt} {o v1 v2 v3 : Int} {d' : Dt} {r : Int} {s : Dt × Int} {x : ((Dt × Int) ⊕ ((Dt × Int × Int) ⊕ (Dt × Int)))} (F : Fx w G cX8_sortRemainders RX8 5 (some .int) { frames := 0, cells := 0, slots := 0, locals := 0 }) (hX : WF dd m) (hp : PB m o 8) (h : fX8_sortRemainders_31f o v1 v2 v3 s = some x) (K : (Sum.elim (fX8_sortRemainders_31P w l G (QM w G WF (some (mI r)) d' m 0 0) m o v1 v2 v3) (Sum.elim (fX8_sortRemainders_4P w l G (QM w G WF (some (mI r)) d' m 0 0) m o) (fun q => q = (d', r)))) x) : V w l WF G (QM w G WF (some (mI r)) d' m 0 0) s.1 m 0 0 31 [mA o, mI v1, mI v2, mI v3, mI (s.2)] [] := by
  obtain ⟨d, v4⟩ := s
  unfold fX8_sortRemainders_31f at h
  dsimp only at h
  refine v_iload F dX8_sortRemainders_31 rfl ?_
  refine v_if_le F dX8_sortRemainders_33 rfl (fun hq7 => ?_) (fun hq7 => ?_)
  · rw [if_pos hq7] at h
    obtain ⟨z, hu, ez⟩ := up_some h
    clear h
    subst ez
    have h := hu
    clear hu
    exact fX8_sortRemainders_81_ok F hX hp h K
  · rw [if_neg hq7] at h
    refine v_aload_n F dX8_sortRemainders_36 rfl rfl ?_
    refine gf_X8_116 F dX8_sortRemainders_37 hp (v := (o + 237)) rfl ?_
    refine v_iload_n F dX8_sortRemainders_40 rfl rfl ?_
    obtain ⟨hi12, h⟩ := ck_some h
    refine v_iald F dX8_sortRemainders_41 (ar_X8_47 hX hp) hi12 ?_
    refine v_aload_n F dX8_sortRemainders_42 rfl rfl ?_
    refine gf_X8_116 F dX8_sortRemainders_43 hp (v := (o + 237)) rfl ?_
    refine v_aload_n F dX8_sortRemainders_46 rfl rfl ?_
    refine gf_X8_119 F dX8_sortRemainders_47 hp (v := (o + 238)) rfl ?_
    refine v_iload F dX8_sortRemainders_50 rfl ?_
    refine v_iconst F dX8_sortRemainders_52 ⟨by decide, by decide⟩ ?_
    refine v_isub F dX8_sortRemainders_53 ?_
    obtain ⟨x13, ex13, h⟩ := lv_some h
    refine v_nI ex13 ?_
    obtain ⟨hi14, h⟩ := ck_some h
    refine v_iald F dX8_sortRemainders_54 (ar_X8_48 hX hp) hi14 ?_
    obtain ⟨x15, ex15, h⟩ := lv_some h
    refine v_nI ex15 ?_
    obtain ⟨hi16, h⟩ := ck_some h
    refine v_iald F dX8_sortRemainders_55 (ar_X8_47 hX hp) hi16 ?_
    refine v_icmp_le F dX8_sortRemainders_56 rfl (fun hq17 => ?_) (fun hq17 => ?_)
    · rw [if_pos hq17] at h
      obtain ⟨z, hu, ez⟩ := up_some h
      clear h
      subst ez
      have h := hu
      clear hu
      exact fX8_sortRemainders_81_ok F hX hp h K
    · rw [if_neg hq17] at h
      refine v_aload_n F dX8_sortRemainders_59 rfl rfl ?_
      refine gf_X8_119 F dX8_sortRemainders_60 hp (v := (o + 238)) rfl ?_
      refine v_iload F dX8_sortRemainders_63 rfl ?_
      refine v_aload_n F dX8_sortRemainders_65 rfl rfl ?_
      refine gf_X8_119 F dX8_sortRemainders_66 hp (v := (o + 238)) rfl ?_
      refine v_iload F dX8_sortRemainders_69 rfl ?_
      refine v_iconst F dX8_sortRemainders_71 ⟨by decide, by decide⟩ ?_
      refine v_isub F dX8_sortRemainders_72 ?_
      obtain ⟨x18, ex18, h⟩ := lv_some h
      refine v_nI ex18 ?_
      obtain ⟨hi19, h⟩ := ck_some h
      refine v_iald F dX8_sortRemainders_73 (ar_X8_48 hX hp) hi19 ?_
      obtain ⟨hi20, h⟩ := ck_some h
      obtain ⟨d21, ed21, h⟩ := sd_some h
      refine v_iast F dX8_sortRemainders_74 (ar_X8_48 hX hp) hi20 ?_
      refine v_nD ed21 ?_
      obtain ⟨x22, ex22, h⟩ := lv_some h
      refine v_iincN F dX8_sortRemainders_75 (Nat.le_of_ble_eq_true rfl) rfl ex22 (L' := [mA o, mI v1, mI v2, mI v3, mI x22]) rfl ?_
      refine v_goto F dX8_sortRemainders_78 rfl ?_
      cases h
      exact K
theorem fX8_sortRemainders_31_ok {w : Wd} {l : Launch} {G : Cx} {d m dd : Dt} {o v1 v2 v3 v4 : Int} {d' : Dt} {r : Int} {x : ((Dt × Int × Int) ⊕ (Dt × Int))} (F : Fx w G cX8_sortRemainders RX8 5 (some .int) { frames := 0, cells := 0, slots := 0, locals := 0 }) (hX : WF dd m) (hp : PB m o 8) (h : fX8_sortRemainders_31 d o v1 v2 v3 v4 = some x) (K : (Sum.elim (fX8_sortRemainders_4P w l G (QM w G WF (some (mI r)) d' m 0 0) m o) (fun q => q = (d', r))) x) : V w l WF G (QM w G WF (some (mI r)) d' m 0 0) d m 0 0 31 [mA o, mI v1, mI v2, mI v3, mI v4] [] := by
  unfold fX8_sortRemainders_31 at h
  exact loop_ok (P := fX8_sortRemainders_31P w l G (QM w G WF (some (mI r)) d' m 0 0) m o v1 v2 v3) (fun s x hx h1 h2 => fX8_sortRemainders_31f_ok F hX hp hx (by
    cases x with
    | inl s' => exact h1 s' rfl
    | inr z => cases h2 z rfl; exact K)) h
theorem fX8_sortRemainders_4f_ok {w : Wd} {l : Launch} {G : Cx} {m dd : Dt} {o : Int} {d' : Dt} {r : Int} {s : Dt × Int × Int} {x : ((Dt × Int × Int) ⊕ (Dt × Int))} (F : Fx w G cX8_sortRemainders RX8 5 (some .int) { frames := 0, cells := 0, slots := 0, locals := 0 }) (hX : WF dd m) (hp : PB m o 8) (h : fX8_sortRemainders_4f o s = some x) (K : (Sum.elim (fX8_sortRemainders_4P w l G (QM w G WF (some (mI r)) d' m 0 0) m o) (fun q => q = (d', r))) x) : V w l WF G (QM w G WF (some (mI r)) d' m 0 0) s.1 m 0 0 4 [mA o, mI (s.2.1), mI (s.2.2), mU, mU] [] := by
  obtain ⟨d, v1, v2⟩ := s
  unfold fX8_sortRemainders_4f at h
  dsimp only at h
  refine v_iload_n F dX8_sortRemainders_4 rfl rfl ?_
  refine v_aload_n F dX8_sortRemainders_5 rfl rfl ?_
  refine gf_X8_416 F dX8_sortRemainders_6 hp ?_
  refine v_icmp_ge F dX8_sortRemainders_9 rfl (fun hq1 => ?_) (fun hq1 => ?_)
  · rw [if_pos hq1] at h
    obtain ⟨z, hu, ez⟩ := up_some h
    clear h
    subst ez
    have h := hu
    clear hu
    refine v_iload_n F dX8_sortRemainders_98 rfl rfl ?_
    cases h
    cases (show _ = (d', r) from K)
    exact v_iret F dX8_sortRemainders_99
  · rw [if_neg hq1] at h
    refine v_aload_n F dX8_sortRemainders_12 rfl rfl ?_
    refine gf_X8_101 F dX8_sortRemainders_13 hp (v := (o + 232)) rfl ?_
    refine v_iload_n F dX8_sortRemainders_16 rfl rfl ?_
    obtain ⟨hi2, h⟩ := ck_some h
    refine v_iald F dX8_sortRemainders_17 (ar_X8_41 hX hp) hi2 ?_
    obtain ⟨x3, ex3, h⟩ := lv_some h
    refine v_nI ex3 ?_
    refine v_istore_n F dX8_sortRemainders_18 rfl (Nat.le_of_ble_eq_true rfl) (L' := [mA o, mI v1, mI v2, mI x3, mU]) rfl ?_
    refine v_aload_n F dX8_sortRemainders_19 rfl rfl ?_
    refine gf_X8_110 F dX8_sortRemainders_20 hp (v := (o + 235)) rfl ?_
    refine v_iload_n F dX8_sortRemainders_23 rfl rfl ?_
    obtain ⟨hi4, h⟩ := ck_some h
    refine v_zald F dX8_sortRemainders_24 (ar_X8_45 hX hp) hi4 ?_
    refine v_if_eq F dX8_sortRemainders_25 rfl (fun hq5 => ?_) (fun hq5 => ?_)
    · rw [if_pos hq5] at h
      obtain ⟨x6, ex6, h⟩ := lv_some h
      refine v_iincN F dX8_sortRemainders_92 (Nat.le_of_ble_eq_true rfl) rfl ex6 (L' := [mA o, mI v1, mI x6, mI x3, mU]) rfl ?_
      refine v_goto F dX8_sortRemainders_95 rfl ?_
      cases h
      refine v_fgt (L' := [mA o, mI v1, mI x6, mU, mU]) ⟨Or.inl rfl, Or.inl rfl, Or.inl rfl, Or.inr rfl, Or.inl rfl, trivial⟩ ?_
      exact K
    · rw [if_neg hq5] at h
      refine v_iload_n F dX8_sortRemainders_28 rfl rfl ?_
      refine v_istore F dX8_sortRemainders_29 (Nat.le_of_ble_eq_true rfl) (L' := [mA o, mI v1, mI v2, mI x3, mI v1]) rfl ?_
      exact fX8_sortRemainders_31_ok F hX hp h K
theorem fX8_sortRemainders_4_ok {w : Wd} {l : Launch} {G : Cx} {d m dd : Dt} {o v1 v2 : Int} {d' : Dt} {r : Int} {x : (Dt × Int)} (F : Fx w G cX8_sortRemainders RX8 5 (some .int) { frames := 0, cells := 0, slots := 0, locals := 0 }) (hX : WF dd m) (hp : PB m o 8) (h : fX8_sortRemainders_4 d o v1 v2 = some x) (K : (fun q => q = (d', r)) x) : V w l WF G (QM w G WF (some (mI r)) d' m 0 0) d m 0 0 4 [mA o, mI v1, mI v2, mU, mU] [] := by
  unfold fX8_sortRemainders_4 at h
  exact loop_ok (P := fX8_sortRemainders_4P w l G (QM w G WF (some (mI r)) d' m 0 0) m o) (fun s x hx h1 h2 => fX8_sortRemainders_4f_ok F hX hp hx (by
    cases x with
    | inl s' => exact h1 s' rfl
    | inr z => cases h2 z rfl; exact K)) h
theorem vm_X8_sortRemainders {w : Wd} {l : Launch} {d m : Dt} {o : Int} {d' : Dt} {r : Int} (hp : PB m o 8) (h : fX8_sortRemainders d o = some (d', r)) : VM w l WF yX8_sortRemainders cX8_sortRemainders 5 (some .int) 0 0 0 0 d m [mA o] (some (mI r)) d' m := by
  obtain ⟨x, h, K⟩ : ∃ x, fX8_sortRemainders d o = some x ∧ x = (d', r) := ⟨_, h, rfl⟩
  refine VM.of (L := [mA o, mU, mU, mU, mU]) (by decide +kernel) rfl (Nat.le_of_ble_eq_true rfl) fun G F _ => v_fact fun _ hX _ _ => ?_
  unfold fX8_sortRemainders at h
  refine v_iconst F dX8_sortRemainders_0 ⟨by decide, by decide⟩ ?_
  refine v_istore_n F dX8_sortRemainders_1 rfl (Nat.le_of_ble_eq_true rfl) (L' := [mA o, mI 0, mU, mU, mU]) rfl ?_
  refine v_iconst F dX8_sortRemainders_2 ⟨by decide, by decide⟩ ?_
  refine v_istore_n F dX8_sortRemainders_3 rfl (Nat.le_of_ble_eq_true rfl) (L' := [mA o, mI 0, mI 0, mU, mU]) rfl ?_
  exact fX8_sortRemainders_4_ok F hX hp h K
def fX8_takeBack_2P (w : Wd) (l : Launch) (G : Cx) (Q : State → Prop) (m : Dt) (o a1 a2 : Int) (s : Dt × Int) : Prop := V w l WF G Q s.1 m 0 0 2 [mA o, mU, mI a2, mI (s.2), mU, mU] []
def fX8_takeBack_11P (w : Wd) (l : Launch) (G : Cx) (Q : State → Prop) (m : Dt) (o a1 a2 : Int) (s : Dt × Int × Int) : Prop := V w l WF G Q s.1 m 0 0 11 [mA o, mU, mI a2, mI (s.2.1), mI (s.2.2), mU] []
theorem fX8_takeBack_70_ok {w : Wd} {l : Launch} {G : Cx} {d m dd : Dt} {o a1 a2 v3 v4 s1 s2 s3 : Int} {d' : Dt} {x : ((Dt × Int × Int) ⊕ ((Dt × Int) ⊕ Dt))} (F : Fx w G cX8_takeBack RX8 6 none { frames := 0, cells := 0, slots := 0, locals := 0 }) (hX : WF dd m) (hp : PB m o 8) (h : fX8_takeBack_70 d o a1 a2 v3 v4 s1 s2 s3 = some x) (K : (Sum.elim (fX8_takeBack_11P w l G (QM w G WF none d' m 0 0) m o a1 a2) (Sum.elim (fX8_takeBack_2P w l G (QM w G WF none d' m 0 0) m o a1 a2) (fun q => q = d'))) x) : V w l WF G (QM w G WF none d' m 0 0) d m 0 0 70 [mA o, mU, mI a2, mI v3, mI v4, mU] [mI s3, mI s2, mI s1, mA (o + 236)] := by
  unfold fX8_takeBack_70 at h
  refine v_isub F dX8_takeBack_70 ?_
  obtain ⟨hi12, h⟩ := ck_some h
  obtain ⟨d13, ed13, h⟩ := sd_some h
  refine v_iast F dX8_takeBack_71 (ar_X8_46 hX hp) hi12 ?_
  refine v_nD ed13 ?_
  obtain ⟨x14, ex14, h⟩ := lv_some h
  refine v_iincN F dX8_takeBack_72 (Nat.le_of_ble_eq_true rfl) rfl ex14 (L' := [mA o, mU, mI a2, mI v3, mI x14, mU]) rfl ?_
  refine v_goto F dX8_takeBack_75 rfl ?_
  cases h
  exact K
theorem fX8_takeBack_45_ok {w : Wd} {l : Launch} {G : Cx} {d m dd : Dt} {o a1 a2 v4 v5 s0 s1 : Int} {d' : Dt} {x : ((Dt × Int × Int) ⊕ ((Dt × Int) ⊕ Dt))} (F : Fx w G cX8_takeBack RX8 6 none { frames := 0, cells := 0, slots := 0, locals := 0 }) (hX : WF dd m) (hp : PB m o 8) (h : fX8_takeBack_45 d o a1 a2 v4 v5 s0 s1 = some x) (K : (Sum.elim (fX8_takeBack_11P w l G (QM w G WF none d' m 0 0) m o a1 a2) (Sum.elim (fX8_takeBack_2P w l G (QM w G WF none d' m 0 0) m o a1 a2) (fun q => q = d'))) x) : V w l WF G (QM w G WF none d' m 0 0) d m 0 0 45 [mA o, mU, mI a2, mU, mI v4, mI v5] [mI s1, mI s0] := by
  unfold fX8_takeBack_45 at h
  refine v_isub F dX8_takeBack_45 ?_
  obtain ⟨x9, ex9, h⟩ := lv_some h
  refine v_nI ex9 ?_
  refine v_istore_n F dX8_takeBack_46 rfl (Nat.le_of_ble_eq_true rfl) (L' := [mA o, mU, mI a2, mI x9, mI v4, mI v5]) rfl ?_
  refine v_aload_n F dX8_takeBack_47 rfl rfl ?_
  refine gf_X8_113 F dX8_takeBack_48 hp (v := (o + 236)) rfl ?_
  refine v_iload F dX8_takeBack_51 rfl ?_
  refine v_dup2_IA F dX8_takeBack_53 ?_
  obtain ⟨hi10, h⟩ := ck_some h
  refine v_iald F dX8_takeBack_54 (ar_X8_46 hX hp) hi10 ?_
  refine v_aload_n F dX8_takeBack_55 rfl rfl ?_
  refine gf_X8_113 F dX8_takeBack_56 hp (v := (o + 236)) rfl ?_
  refine v_iload F dX8_takeBack_59 rfl ?_
  refine v_iald F dX8_takeBack_61 (ar_X8_46 hX hp) hi10 ?_
  refine v_if_le F dX8_takeBack_62 rfl (fun hq11 => ?_) (fun hq11 => ?_)
  · rw [if_pos hq11] at h
    refine v_iconst F dX8_takeBack_69 ⟨by decide, by decide⟩ ?_
    refine v_fgt (L' := [mA o, mU, mI a2, mI x9, mI v4, mU]) ⟨Or.inl rfl, Or.inl rfl, Or.inl rfl, Or.inl rfl, Or.inl rfl, Or.inr rfl, trivial⟩ ?_
    exact fX8_takeBack_70_ok F hX hp h K
  · rw [if_neg hq11] at h
    refine v_iconst F dX8_takeBack_65 ⟨by decide, by decide⟩ ?_
    refine v_goto F dX8_takeBack_66 rfl ?_
    refine v_fgt (L' := [mA o, mU, mI a2, mI x9, mI v4, mU]) ⟨Or.inl rfl, Or.inl rfl, Or.inl rfl, Or.inl rfl, Or.inl rfl, Or.inr rfl, trivial⟩ ?_
    exact fX8_takeBack_70_ok F hX hp h K
theorem fX8_takeBack_11f_ok {w : Wd} {l : Launch} {G : Cx} {m dd : Dt} {o a1 a2 : Int} {d' : Dt} {s : Dt × Int × Int} {x : ((Dt × Int × Int) ⊕ ((Dt × Int) ⊕ Dt))} (F : Fx w G cX8_takeBack RX8 6 none { frames := 0, cells := 0, slots := 0, locals := 0 }) (hX : WF dd m) (hp : PB m o 8) (h : fX8_takeBack_11f o a1 a2 s = some x) (K : (Sum.elim (fX8_takeBack_11P w l G (QM w G WF none d' m 0 0) m o a1 a2) (Sum.elim (fX8_takeBack_2P w l G (QM w G WF none d' m 0 0) m o a1 a2) (fun q => q = d'))) x) : V w l WF G (QM w G WF none d' m 0 0) s.1 m 0 0 11 [mA o, mU, mI a2, mI (s.2.1), mI (s.2.2), mU] [] := by
  obtain ⟨d, v3, v4⟩ := s
  unfold fX8_takeBack_11f at h
  dsimp only at h
  refine v_iload F dX8_takeBack_11 rfl ?_
  refine v_if_lt F dX8_takeBack_13 rfl (fun hq3 => ?_) (fun hq3 => ?_)
  · rw [if_pos hq3] at h
    obtain ⟨z, hu, ez⟩ := up_some h
    clear h
    subst ez
    have h := hu
    clear hu
    refine v_goto F dX8_takeBack_78 rfl ?_
    cases h
    refine v_fgt (L' := [mA o, mU, mI a2, mI v3, mU, mU]) ⟨Or.inl rfl, Or.inl rfl, Or.inl rfl, Or.inl rfl, Or.inr rfl, Or.inl rfl, trivial⟩ ?_
    exact K
  · rw [if_neg hq3] at h
    refine v_iload_n F dX8_takeBack_16 rfl rfl ?_
    refine v_if_le F dX8_takeBack_17 rfl (fun hq4 => ?_) (fun hq4 => ?_)
    · rw [if_pos hq4] at h
      obtain ⟨z, hu, ez⟩ := up_some h
      clear h
      subst ez
      have h := hu
      clear hu
      refine v_goto F dX8_takeBack_78 rfl ?_
      cases h
      refine v_fgt (L' := [mA o, mU, mI a2, mI v3, mU, mU]) ⟨Or.inl rfl, Or.inl rfl, Or.inl rfl, Or.inl rfl, Or.inr rfl, Or.inl rfl, trivial⟩ ?_
      exact K
    · rw [if_neg hq4] at h
      refine v_aload_n F dX8_takeBack_20 rfl rfl ?_
      refine gf_X8_119 F dX8_takeBack_21 hp (v := (o + 238)) rfl ?_
      refine v_iload F dX8_takeBack_24 rfl ?_
      obtain ⟨hi5, h⟩ := ck_some h
      refine v_iald F dX8_takeBack_26 (ar_X8_48 hX hp) hi5 ?_
      obtain ⟨x6, ex6, h⟩ := lv_some h
      refine v_nI ex6 ?_
      refine v_istore F dX8_takeBack_27 (Nat.le_of_ble_eq_true rfl) (L' := [mA o, mU, mI a2, mI v3, mI v4, mI x6]) rfl ?_
      refine v_iload_n F dX8_takeBack_29 rfl rfl ?_
      refine v_aload_n F dX8_takeBack_30 rfl rfl ?_
      refine gf_X8_113 F dX8_takeBack_31 hp (v := (o + 236)) rfl ?_
      refine v_iload F dX8_takeBack_34 rfl ?_
      obtain ⟨hi7, h⟩ := ck_some h
      refine v_iald F dX8_takeBack_36 (ar_X8_46 hX hp) hi7 ?_
      refine v_if_le F dX8_takeBack_37 rfl (fun hq8 => ?_) (fun hq8 => ?_)
      · rw [if_pos hq8] at h
        refine v_iconst F dX8_takeBack_44 ⟨by decide, by decide⟩ ?_
        refine v_fgt (L' := [mA o, mU, mI a2, mU, mI v4, mI x6]) ⟨Or.inl rfl, Or.inl rfl, Or.inl rfl, Or.inr rfl, Or.inl rfl, Or.inl rfl, trivial⟩ ?_
        exact fX8_takeBack_45_ok F hX hp h K
      · rw [if_neg hq8] at h
        refine v_iconst F dX8_takeBack_40 ⟨by decide, by decide⟩ ?_
        refine v_goto F dX8_takeBack_41 rfl ?_
        refine v_fgt (L' := [mA o, mU, mI a2, mU, mI v4, mI x6]) ⟨Or.inl rfl, Or.inl rfl, Or.inl rfl, Or.inr rfl, Or.inl rfl, Or.inl rfl, trivial⟩ ?_
        exact fX8_takeBack_45_ok F hX hp h K
theorem fX8_takeBack_11_ok {w : Wd} {l : Launch} {G : Cx} {d m dd : Dt} {o a1 a2 v3 v4 : Int} {d' : Dt} {x : ((Dt × Int) ⊕ Dt)} (F : Fx w G cX8_takeBack RX8 6 none { frames := 0, cells := 0, slots := 0, locals := 0 }) (hX : WF dd m) (hp : PB m o 8) (h : fX8_takeBack_11 d o a1 a2 v3 v4 = some x) (K : (Sum.elim (fX8_takeBack_2P w l G (QM w G WF none d' m 0 0) m o a1 a2) (fun q => q = d')) x) : V w l WF G (QM w G WF none d' m 0 0) d m 0 0 11 [mA o, mU, mI a2, mI v3, mI v4, mU] [] := by
  unfold fX8_takeBack_11 at h
  exact loop_ok (P := fX8_takeBack_11P w l G (QM w G WF none d' m 0 0) m o a1 a2) (fun s x hx h1 h2 => fX8_takeBack_11f_ok F hX hp hx (by
    cases x with
    | inl s' => exact h1 s' rfl
    | inr z => cases h2 z rfl; exact K)) h
theorem fX8_takeBack_2f_ok {w : Wd} {l : Launch} {G : Cx} {m dd : Dt} {o a1 a2 : Int} {d' : Dt} {s : Dt × Int} {x : ((Dt × Int) ⊕ Dt)} (F : Fx w G cX8_takeBack RX8 6 none { frames := 0, cells := 0, slots := 0, locals := 0 }) (hX : WF dd m) (hp : PB m o 8) (h : fX8_takeBack_2f o a1 a2 s = some x) (K : (Sum.elim (fX8_takeBack_2P w l G (QM w G WF none d' m 0 0) m o a1 a2) (fun q => q = d')) x) : V w l WF G (QM w G WF none d' m 0 0) s.1 m 0 0 2 [mA o, mU, mI a2, mI (s.2), mU, mU] [] := by
  obtain ⟨d, v3⟩ := s
  unfold fX8_takeBack_2f at h
  dsimp only at h
  refine v_iload_n F dX8_takeBack_2 rfl rfl ?_
  refine v_if_le F dX8_takeBack_3 rfl (fun hq1 => ?_) (fun hq1 => ?_)
  · rw [if_pos hq1] at h
    obtain ⟨z, hu, ez⟩ := up_some h
    clear h
    subst ez
    have h := hu
    clear hu
    cases h
    cases (show _ = d' from K)
    exact v_vret F dX8_takeBack_81
  · rw [if_neg hq1] at h
    refine v_iload_n F dX8_takeBack_6 rfl rfl ?_
    refine v_iconst F dX8_takeBack_7 ⟨by decide, by decide⟩ ?_
    refine v_isub F dX8_takeBack_8 ?_
    obtain ⟨x2, ex2, h⟩ := lv_some h
    refine v_nI ex2 ?_
    refine v_istore F dX8_takeBack_9 (Nat.le_of_ble_eq_true rfl) (L' := [mA o, mU, mI a2, mI v3, mI x2, mU]) rfl ?_
    exact fX8_takeBack_11_ok F hX hp h K
theorem fX8_takeBack_2_ok {w : Wd} {l : Launch} {G : Cx} {d m dd : Dt} {o a1 a2 v3 : Int} {d' : Dt} {x : Dt} (F : Fx w G cX8_takeBack RX8 6 none { frames := 0, cells := 0, slots := 0, locals := 0 }) (hX : WF dd m) (hp : PB m o 8) (h : fX8_takeBack_2 d o a1 a2 v3 = some x) (K : (fun q => q = d') x) : V w l WF G (QM w G WF none d' m 0 0) d m 0 0 2 [mA o, mU, mI a2, mI v3, mU, mU] [] := by
  unfold fX8_takeBack_2 at h
  exact loop_ok (P := fX8_takeBack_2P w l G (QM w G WF none d' m 0 0) m o a1 a2) (fun s x hx h1 h2 => fX8_takeBack_2f_ok F hX hp hx (by
    cases x with
    | inl s' => exact h1 s' rfl
    | inr z => cases h2 z rfl; exact K)) h
theorem vm_X8_takeBack {w : Wd} {l : Launch} {d m : Dt} {o a1 a2 : Int} {d' : Dt} (hp : PB m o 8) (h : fX8_takeBack d o a1 a2 = some d') : VM w l WF yX8_takeBack cX8_takeBack 6 none 0 0 0 0 d m [mA o, mI a1, mI a2] none d' m := by
  obtain ⟨x, h, K⟩ : ∃ x, fX8_takeBack d o a1 a2 = some x ∧ x = d' := ⟨_, h, rfl⟩
  refine VM.of (L := [mA o, mI a1, mI a2, mU, mU, mU]) (by decide +kernel) rfl (Nat.le_of_ble_eq_true rfl) fun G F _ => v_fact fun _ hX _ _ => ?_
  unfold fX8_takeBack at h
  refine v_iload_n F dX8_takeBack_0 rfl rfl ?_
  refine v_istore_n F dX8_takeBack_1 rfl (Nat.le_of_ble_eq_true rfl) (L' := [mA o, mI a1, mI a2, mI a1, mU, mU]) rfl ?_
  refine v_fgt (L' := [mA o, mU, mI a2, mI a1, mU, mU]) ⟨Or.inl rfl, Or.inr rfl, Or.inl rfl, Or.inl rfl, Or.inl rfl, Or.inl rfl, trivial⟩ ?_
  exact fX8_takeBack_2_ok F hX hp h K
def fX8_addTo_6P (w : Wd) (l : Launch) (G : Cx) (Q : State → Prop) (m : Dt) (o a1 a2 a3 : Int) (s : Dt × Int × Int) : Prop := V w l WF G Q s.1 m 0 0 6 [mA o, mU, mI a2, mI a3, mI (s.2.1), mI (s.2.2), mU, mU] []
def fX8_addTo_22P (w : Wd) (l : Launch) (G : Cx) (Q : State → Prop) (m : Dt) (o a1 a2 a3 : Int) (s : Dt × Int × Int × Int) : Prop := V w l WF G Q s.1 m 0 0 22 [mA o, mU, mI a2, mI a3, mI (s.2.1), mI (s.2.2.1), mI (s.2.2.2), mU] []
theorem fX8_addTo_63_ok {w : Wd} {l : Launch} {G : Cx} {d m dd : Dt} {o a1 a2 a3 v4 v6 v7 : Int} {d' : Dt} {x : ((Dt × Int × Int × Int) ⊕ ((Dt × Int × Int) ⊕ Dt))} (F : Fx w G cX8_addTo RX8 8 none { frames := 0, cells := 0, slots := 0, locals := 0 }) (hX : WF dd m) (hp : PB m o 8) (h : fX8_addTo_63 d o a1 a2 a3 v4 v6 v7 = some x) (K : (Sum.elim (fX8_addTo_22P w l G (QM w G WF none d' m 0 0) m o a1 a2 a3) (Sum.elim (fX8_addTo_6P w l G (QM w G WF none d' m 0 0) m o a1 a2 a3) (fun q => q = d'))) x) : V w l WF G (QM w G WF none d' m 0 0) d m 0 0 63 [mA o, mU, mI a2, mI a3, mI v4, mU, mI v6, mI v7] [] := by
  unfold fX8_addTo_63 at h
  refine v_aload_n F dX8_addTo_63 rfl rfl ?_
  refine gf_X8_113 F dX8_addTo_64 hp (v := (o + 236)) rfl ?_
  refine v_iload F dX8_addTo_67 rfl ?_
  refine v_dup2_IA F dX8_addTo_69 ?_
  obtain ⟨hi8, h⟩ := ck_some h
  refine v_iald F dX8_addTo_70 (ar_X8_46 hX hp) hi8 ?_
  refine v_iconst F dX8_addTo_71 ⟨by decide, by decide⟩ ?_
  refine v_iadd F dX8_addTo_72 ?_
  obtain ⟨d9, ed9, h⟩ := sd_some h
  refine v_iast F dX8_addTo_73 (ar_X8_46 hX hp) hi8 ?_
  refine v_nD ed9 ?_
  obtain ⟨x10, ex10, h⟩ := lv_some h
  refine v_iincN F dX8_addTo_74 (Nat.le_of_ble_eq_true rfl) rfl ex10 (L' := [mA o, mU, mI a2, mI a3, mI x10, mU, mI v6, mI v7]) rfl ?_
  refine v_iconst F dX8_addTo_77 ⟨by decide, by decide⟩ ?_
  refine v_istore F dX8_addTo_78 (Nat.le_of_ble_eq_true rfl) (L' := [mA o, mU, mI a2, mI a3, mI x10, mI 1, mI v6, mI v7]) rfl ?_
  obtain ⟨x11, ex11, h⟩ := lv_some h
  refine v_iincN F dX8_addTo_80 (Nat.le_of_ble_eq_true rfl) rfl ex11 (L' := [mA o, mU, mI a2, mI a3, mI x10, mI 1, mI x11, mI v7]) rfl ?_
  refine v_goto F dX8_addTo_83 rfl ?_
  cases h
  refine v_fgt (L' := [mA o, mU, mI a2, mI a3, mI x10, mI 1, mI x11, mU]) ⟨Or.inl rfl, Or.inl rfl, Or.inl rfl, Or.inl rfl, Or.inl rfl, Or.inl rfl, Or.inl rfl, Or.inr rfl, trivial⟩ ?_
  exact K
theorem fX8_addTo_22f_ok {w : Wd} {l : Launch} {G : Cx} {m dd : Dt} {o a1 a2 a3 : Int} {d' : Dt} {s : Dt × Int × Int × Int} {x : ((Dt × Int × Int × Int) ⊕ ((Dt × Int × Int) ⊕ Dt))} (F : Fx w G cX8_addTo RX8 8 none { frames := 0, cells := 0, slots := 0, locals := 0 }) (hX : WF dd m) (hp : PB m o 8) (h : fX8_addTo_22f o a1 a2 a3 s = some x) (K : (Sum.elim (fX8_addTo_22P w l G (QM w G WF none d' m 0 0) m o a1 a2 a3) (Sum.elim (fX8_addTo_6P w l G (QM w G WF none d' m 0 0) m o a1 a2 a3) (fun q => q = d'))) x) : V w l WF G (QM w G WF none d' m 0 0) s.1 m 0 0 22 [mA o, mU, mI a2, mI a3, mI (s.2.1), mI (s.2.2.1), mI (s.2.2.2), mU] [] := by
  obtain ⟨d, v4, v5, v6⟩ := s
  unfold fX8_addTo_22f at h
  dsimp only at h
  refine v_iload F dX8_addTo_22 rfl ?_
  refine v_iload_n F dX8_addTo_24 rfl rfl ?_
  refine v_icmp_ge F dX8_addTo_25 rfl (fun hq3 => ?_) (fun hq3 => ?_)
  · rw [if_pos hq3] at h
    obtain ⟨z, hu, ez⟩ := up_some h
    clear h
    subst ez
    have h := hu
    clear hu
    refine v_goto F dX8_addTo_86 rfl ?_
    cases h
    refine v_fgt (L' := [mA o, mU, mI a2, mI a3, mI v4, mI v5, mU, mU]) ⟨Or.inl rfl, Or.inl rfl, Or.inl rfl, Or.inl rfl, Or.inl rfl, Or.inl rfl, Or.inr rfl, Or.inl rfl, trivial⟩ ?_
    exact K
  · rw [if_neg hq3] at h
    refine v_iload F dX8_addTo_28 rfl ?_
    refine v_if_le F dX8_addTo_30 rfl (fun hq4 => ?_) (fun hq4 => ?_)
    · rw [if_pos hq4] at h
      obtain ⟨z, hu, ez⟩ := up_some h
      clear h
      subst ez
      have h := hu
      clear hu
      refine v_goto F dX8_addTo_86 rfl ?_
      cases h
      refine v_fgt (L' := [mA o, mU, mI a2, mI a3, mI v4, mI v5, mU, mU]) ⟨Or.inl rfl, Or.inl rfl, Or.inl rfl, Or.inl rfl, Or.inl rfl, Or.inl rfl, Or.inr rfl, Or.inl rfl, trivial⟩ ?_
      exact K
    · rw [if_neg hq4] at h
      refine v_aload_n F dX8_addTo_33 rfl rfl ?_
      refine gf_X8_119 F dX8_addTo_34 hp (v := (o + 238)) rfl ?_
      refine v_iload F dX8_addTo_37 rfl ?_
      obtain ⟨hi5, h⟩ := ck_some h
      refine v_iald F dX8_addTo_39 (ar_X8_48 hX hp) hi5 ?_
      obtain ⟨x6, ex6, h⟩ := lv_some h
      refine v_nI ex6 ?_
      refine v_istore F dX8_addTo_40 (Nat.le_of_ble_eq_true rfl) (L' := [mA o, mU, mI a2, mI a3, mI v4, mI v5, mI v6, mI x6]) rfl ?_
      refine v_iload_n F dX8_addTo_42 rfl rfl ?_
      refine v_if_eq F dX8_addTo_43 rfl (fun hq7 => ?_) (fun hq7 => ?_)
      · rw [if_pos hq7] at h
        refine v_fgt (L' := [mA o, mU, mI a2, mI a3, mI v4, mU, mI v6, mI x6]) ⟨Or.inl rfl, Or.inl rfl, Or.inl rfl, Or.inl rfl, Or.inl rfl, Or.inr rfl, Or.inl rfl, Or.inl rfl, trivial⟩ ?_
        exact fX8_addTo_63_ok F hX hp h K
      · rw [if_neg hq7] at h
        refine v_aload_n F dX8_addTo_46 rfl rfl ?_
        refine gf_X8_113 F dX8_addTo_47 hp (v := (o + 236)) rfl ?_
        refine v_iload F dX8_addTo_50 rfl ?_
        obtain ⟨hi12, h⟩ := ck_some h
        refine v_iald F dX8_addTo_52 (ar_X8_46 hX hp) hi12 ?_
        refine v_aload_n F dX8_addTo_53 rfl rfl ?_
        refine gf_X8_107 F dX8_addTo_54 hp (v := (o + 234)) rfl ?_
        refine v_iload F dX8_addTo_57 rfl ?_
        refine v_iald F dX8_addTo_59 (ar_X8_44 hX hp) hi12 ?_
        refine v_icmp_ge F dX8_addTo_60 rfl (fun hq13 => ?_) (fun hq13 => ?_)
        · rw [if_pos hq13] at h
          obtain ⟨x14, ex14, h⟩ := lv_some h
          refine v_iincN F dX8_addTo_80 (Nat.le_of_ble_eq_true rfl) rfl ex14 (L' := [mA o, mU, mI a2, mI a3, mI v4, mI v5, mI x14, mI x6]) rfl ?_
          refine v_goto F dX8_addTo_83 rfl ?_
          cases h
          refine v_fgt (L' := [mA o, mU, mI a2, mI a3, mI v4, mI v5, mI x14, mU]) ⟨Or.inl rfl, Or.inl rfl, Or.inl rfl, Or.inl rfl, Or.inl rfl, Or.inl rfl, Or.inl rfl, Or.inr rfl, trivial⟩ ?_
          exact K
        · rw [if_neg hq13] at h
          refine v_fgt (L' := [mA o, mU, mI a2, mI a3, mI v4, mU, mI v6, mI x6]) ⟨Or.inl rfl, Or.inl rfl, Or.inl rfl, Or.inl rfl, Or.inl rfl, Or.inr rfl, Or.inl rfl, Or.inl rfl, trivial⟩ ?_
          exact fX8_addTo_63_ok F hX hp h K
theorem fX8_addTo_22_ok {w : Wd} {l : Launch} {G : Cx} {d m dd : Dt} {o a1 a2 a3 v4 v5 v6 : Int} {d' : Dt} {x : ((Dt × Int × Int) ⊕ Dt)} (F : Fx w G cX8_addTo RX8 8 none { frames := 0, cells := 0, slots := 0, locals := 0 }) (hX : WF dd m) (hp : PB m o 8) (h : fX8_addTo_22 d o a1 a2 a3 v4 v5 v6 = some x) (K : (Sum.elim (fX8_addTo_6P w l G (QM w G WF none d' m 0 0) m o a1 a2 a3) (fun q => q = d')) x) : V w l WF G (QM w G WF none d' m 0 0) d m 0 0 22 [mA o, mU, mI a2, mI a3, mI v4, mI v5, mI v6, mU] [] := by
  unfold fX8_addTo_22 at h
  exact loop_ok (P := fX8_addTo_22P w l G (QM w G WF none d' m 0 0) m o a1 a2 a3) (fun s x hx h1 h2 => fX8_addTo_22f_ok F hX hp hx (by
    cases x with
    | inl s' => exact h1 s' rfl
    | inr z => cases h2 z rfl; exact K)) h
theorem fX8_addTo_6f_ok {w : Wd} {l : Launch} {G : Cx} {m dd : Dt} {o a1 a2 a3 : Int} {d' : Dt} {s : Dt × Int × Int} {x : ((Dt × Int × Int) ⊕ Dt)} (F : Fx w G cX8_addTo RX8 8 none { frames := 0, cells := 0, slots := 0, locals := 0 }) (hX : WF dd m) (hp : PB m o 8) (h : fX8_addTo_6f o a1 a2 a3 s = some x) (K : (Sum.elim (fX8_addTo_6P w l G (QM w G WF none d' m 0 0) m o a1 a2 a3) (fun q => q = d')) x) : V w l WF G (QM w G WF none d' m 0 0) s.1 m 0 0 6 [mA o, mU, mI a2, mI a3, mI (s.2.1), mI (s.2.2), mU, mU] [] := by
  obtain ⟨d, v4, v5⟩ := s
  unfold fX8_addTo_6f at h
  dsimp only at h
  refine v_iload F dX8_addTo_6 rfl ?_
  refine v_if_le F dX8_addTo_8 rfl (fun hq1 => ?_) (fun hq1 => ?_)
  · rw [if_pos hq1] at h
    obtain ⟨z, hu, ez⟩ := up_some h
    clear h
    subst ez
    have h := hu
    clear hu
    cases h
    cases (show _ = d' from K)
    exact v_vret F dX8_addTo_89
  · rw [if_neg hq1] at h
    refine v_iload F dX8_addTo_11 rfl ?_
    refine v_if_eq F dX8_addTo_13 rfl (fun hq2 => ?_) (fun hq2 => ?_)
    · rw [if_pos hq2] at h
      obtain ⟨z, hu, ez⟩ := up_some h
      clear h
      subst ez
      have h := hu
      clear hu
      cases h
      cases (show _ = d' from K)
      exact v_vret F dX8_addTo_89
    · rw [if_neg hq2] at h
      refine v_iconst F dX8_addTo_16 ⟨by decide, by decide⟩ ?_
      refine v_istore F dX8_addTo_17 (Nat.le_of_ble_eq_true rfl) (L' := [mA o, mU, mI a2, mI a3, mI v4, mI 0, mU, mU]) rfl ?_
      refine v_iconst F dX8_addTo_19 ⟨by decide, by decide⟩ ?_
      refine v_istore F dX8_addTo_20 (Nat.le_of_ble_eq_true rfl) (L' := [mA o, mU, mI a2, mI a3, mI v4, mI 0, mI 0, mU]) rfl ?_
      exact fX8_addTo_22_ok F hX hp h K
theorem fX8_addTo_6_ok {w : Wd} {l : Launch} {G : Cx} {d m dd : Dt} {o a1 a2 a3 v4 v5 : Int} {d' : Dt} {x : Dt} (F : Fx w G cX8_addTo RX8 8 none { frames := 0, cells := 0, slots := 0, locals := 0 }) (hX : WF dd m) (hp : PB m o 8) (h : fX8_addTo_6 d o a1 a2 a3 v4 v5 = some x) (K : (fun q => q = d') x) : V w l WF G (QM w G WF none d' m 0 0) d m 0 0 6 [mA o, mU, mI a2, mI a3, mI v4, mI v5, mU, mU] [] := by
  unfold fX8_addTo_6 at h
  exact loop_ok (P := fX8_addTo_6P w l G (QM w G WF none d' m 0 0) m o a1 a2 a3) (fun s x hx h1 h2 => fX8_addTo_6f_ok F hX hp hx (by
    cases x with
    | inl s' => exact h1 s' rfl
    | inr z => cases h2 z rfl; exact K)) h
theorem vm_X8_addTo {w : Wd} {l : Launch} {d m : Dt} {o a1 a2 a3 : Int} {d' : Dt} (hp : PB m o 8) (h : fX8_addTo d o a1 a2 a3 = some d') : VM w l WF yX8_addTo cX8_addTo 8 none 0 0 0 0 d m [mA o, mI a1, mI a2, mI a3] none d' m := by
  obtain ⟨x, h, K⟩ : ∃ x, fX8_addTo d o a1 a2 a3 = some x ∧ x = d' := ⟨_, h, rfl⟩
  refine VM.of (L := [mA o, mI a1, mI a2, mI a3, mU, mU, mU, mU]) (by decide +kernel) rfl (Nat.le_of_ble_eq_true rfl) fun G F _ => v_fact fun _ hX _ _ => ?_
  unfold fX8_addTo at h
  refine v_iload_n F dX8_addTo_0 rfl rfl ?_
  refine v_istore F dX8_addTo_1 (Nat.le_of_ble_eq_true rfl) (L' := [mA o, mI a1, mI a2, mI a3, mI a1, mU, mU, mU]) rfl ?_
  refine v_iconst F dX8_addTo_3 ⟨by decide, by decide⟩ ?_
  refine v_istore F dX8_addTo_4 (Nat.le_of_ble_eq_true rfl) (L' := [mA o, mI a1, mI a2, mI a3, mI a1, mI 1, mU, mU]) rfl ?_
  refine v_fgt (L' := [mA o, mU, mI a2, mI a3, mI a1, mI 1, mU, mU]) ⟨Or.inl rfl, Or.inr rfl, Or.inl rfl, Or.inl rfl, Or.inl rfl, Or.inl rfl, Or.inl rfl, Or.inl rfl, trivial⟩ ?_
  exact fX8_addTo_6_ok F hX hp h K
def fX8_byQuotas_5P (w : Wd) (l : Launch) (G : Cx) (Q : State → Prop) (m : Dt) (o a1 a2 : Int) (s : Dt × Int × Int) : Prop := V w l WF G Q s.1 m 0 0 5 [mA o, mI a1, mI a2, mI (s.2.1), mI (s.2.2), mU, mU, mU, mU] []
theorem fX8_byQuotas_195_ok {w : Wd} {l : Launch} {G : Cx} {d m dd : Dt} {o a1 a2 v3 v4 v5 s1 s2 : Int} {d' : Dt} {x : ((Dt × Int × Int) ⊕ Dt)} (F : Fx w G cX8_byQuotas RX8 9 none { frames := 1, cells := 0, slots := 0, locals := 27 }) (hX : WF dd m) (hp : PB m o 8) (h : fX8_byQuotas_195 d o a1 a2 v3 v4 v5 s1 s2 = some x) (K : (Sum.elim (fX8_byQuotas_5P w l G (QM w G WF none d' m 0 0) m o a1 a2) (fun q => q = d')) x) : V w l WF G (QM w G WF none d' m 0 0) d m 0 0 195 [mA o, mI a1, mI a2, mI v3, mI v4, mI v5, mU, mU, mU] [mI s2, mI s1, mA (o + 236)] := by
  unfold fX8_byQuotas_195 at h
  obtain ⟨hi37, h⟩ := ck_some h
  obtain ⟨d38, ed38, h⟩ := sd_some h
  refine v_iast F dX8_byQuotas_195 (ar_X8_46 hX hp) hi37 ?_
  refine v_nD ed38 ?_
  refine v_iload_n F dX8_byQuotas_196 rfl rfl ?_
  refine v_aload_n F dX8_byQuotas_197 rfl rfl ?_
  refine gf_X8_113 F dX8_byQuotas_198 hp (v := (o + 236)) rfl ?_
  refine v_iload F dX8_byQuotas_201 rfl ?_
  obtain ⟨hi39, h⟩ := ck_some h
  refine v_iald F dX8_byQuotas_203 (ar_X8_46 hX hp) hi39 ?_
  refine v_iadd F dX8_byQuotas_204 ?_
  obtain ⟨x40, ex40, h⟩ := lv_some h
  refine v_nI ex40 ?_
  refine v_istore_n F dX8_byQuotas_205 rfl (Nat.le_of_ble_eq_true rfl) (L' := [mA o, mI a1, mI a2, mI x40, mI v4, mI v5, mU, mU, mU]) rfl ?_
  obtain ⟨x41, ex41, h⟩ := lv_some h
  refine v_iincN F dX8_byQuotas_206 (Nat.le_of_ble_eq_true rfl) rfl ex41 (L' := [mA o, mI a1, mI a2, mI x40, mI x41, mI v5, mU, mU, mU]) rfl ?_
  refine v_goto F dX8_byQuotas_209 rfl ?_
  cases h
  refine v_fgt (L' := [mA o, mI a1, mI a2, mI x40, mI x41, mU, mU, mU, mU]) ⟨Or.inl rfl, Or.inl rfl, Or.inl rfl, Or.inl rfl, Or.inl rfl, Or.inr rfl, Or.inl rfl, Or.inl rfl, Or.inl rfl, trivial⟩ ?_
  exact K
theorem fX8_byQuotas_132_ok {w : Wd} {l : Launch} {G : Cx} {d m dd : Dt} {o a1 a2 v3 v4 v5 v7 s0 : Int} {d' : Dt} {x : ((Dt × Int × Int) ⊕ Dt)} (F : Fx w G cX8_byQuotas RX8 9 none { frames := 1, cells := 0, slots := 0, locals := 27 }) (hX : WF dd m) (hp : PB m o 8) (h : fX8_byQuotas_132 d o a1 a2 v3 v4 v5 v7 s0 = some x) (K : (Sum.elim (fX8_byQuotas_5P w l G (QM w G WF none d' m 0 0) m o a1 a2) (fun q => q = d')) x) : V w l WF G (QM w G WF none d' m 0 0) d m 0 0 132 [mA o, mI a1, mI a2, mI v3, mI v4, mI v5, mU, mI v7, mU] [mI s0] := by
  unfold fX8_byQuotas_132 at h
  refine v_istore F dX8_byQuotas_132 (Nat.le_of_ble_eq_true rfl) (L' := [mA o, mI a1, mI a2, mI v3, mI v4, mI v5, mU, mI v7, mI s0]) rfl ?_
  refine v_aload_n F dX8_byQuotas_134 rfl rfl ?_
  refine gf_X8_113 F dX8_byQuotas_135 hp (v := (o + 236)) rfl ?_
  refine v_iload F dX8_byQuotas_138 rfl ?_
  refine v_iload F dX8_byQuotas_140 rfl ?_
  refine v_iload F dX8_byQuotas_142 rfl ?_
  obtain ⟨hz31, h⟩ := ck_some h
  refine v_idiv F dX8_byQuotas_144 hz31 ?_
  obtain ⟨hi32, h⟩ := ck_some h
  obtain ⟨d33, ed33, h⟩ := sd_some h
  refine v_iast F dX8_byQuotas_145 (ar_X8_46 hX hp) hi32 ?_
  refine v_nD ed33 ?_
  refine v_aload_n F dX8_byQuotas_146 rfl rfl ?_
  refine gf_X8_116 F dX8_byQuotas_147 hp (v := (o + 237)) rfl ?_
  refine v_iload F dX8_byQuotas_150 rfl ?_
  refine v_iload F dX8_byQuotas_152 rfl ?_
  refine v_iload F dX8_byQuotas_154 rfl ?_
  obtain ⟨hz34, h⟩ := ck_some h
  refine v_irem F dX8_byQuotas_156 hz34 ?_
  obtain ⟨d35, ed35, h⟩ := sd_some h
  refine v_iast F dX8_byQuotas_157 (ar_X8_47 hX hp) hi32 ?_
  refine v_nD ed35 ?_
  refine v_aload_n F dX8_byQuotas_158 rfl rfl ?_
  refine gf_X8_113 F dX8_byQuotas_159 hp (v := (o + 236)) rfl ?_
  refine v_iload F dX8_byQuotas_162 rfl ?_
  refine v_iload_n F dX8_byQuotas_164 rfl rfl ?_
  refine v_if_eq F dX8_byQuotas_165 rfl (fun hq36 => ?_) (fun hq36 => ?_)
  · rw [if_pos hq36] at h
    refine v_aload_n F dX8_byQuotas_188 rfl rfl ?_
    refine gf_X8_113 F dX8_byQuotas_189 hp (v := (o + 236)) rfl ?_
    refine v_iload F dX8_byQuotas_192 rfl ?_
    refine v_iald F dX8_byQuotas_194 (ar_X8_46 hX hp) hi32 ?_
    refine v_fgt (L' := [mA o, mI a1, mI a2, mI v3, mI v4, mI v5, mU, mU, mU]) ⟨Or.inl rfl, Or.inl rfl, Or.inl rfl, Or.inl rfl, Or.inl rfl, Or.inl rfl, Or.inl rfl, Or.inr rfl, Or.inr rfl, trivial⟩ ?_
    exact fX8_byQuotas_195_ok F hX hp h K
  · rw [if_neg hq36] at h
    refine v_aload_n F dX8_byQuotas_168 rfl rfl ?_
    refine gf_X8_113 F dX8_byQuotas_169 hp (v := (o + 236)) rfl ?_
    refine v_iload F dX8_byQuotas_172 rfl ?_
    refine v_iald F dX8_byQuotas_174 (ar_X8_46 hX hp) hi32 ?_
    refine v_aload_n F dX8_byQuotas_175 rfl rfl ?_
    refine gf_X8_107 F dX8_byQuotas_176 hp (v := (o + 234)) rfl ?_
    refine v_iload F dX8_byQuotas_179 rfl ?_
    refine v_iald F dX8_byQuotas_181 (ar_X8_44 hX hp) hi32 ?_
    refine v_callSv F dX8_byQuotas_182 cs_X8_399 rfl (vm_J9_min) rfl (rOk.of rfl) ?_
    refine v_goto F dX8_byQuotas_185 rfl ?_
    refine v_fgt (L' := [mA o, mI a1, mI a2, mI v3, mI v4, mI v5, mU, mU, mU]) ⟨Or.inl rfl, Or.inl rfl, Or.inl rfl, Or.inl rfl, Or.inl rfl, Or.inl rfl, Or.inl rfl, Or.inr rfl, Or.inr rfl, trivial⟩ ?_
    exact fX8_byQuotas_195_ok F hX hp h K
theorem fX8_byQuotas_101_ok {w : Wd} {l : Launch} {G : Cx} {d m dd : Dt} {o a1 a2 v3 v4 v5 s0 : Int} {d' : Dt} {x : ((Dt × Int × Int) ⊕ Dt)} (F : Fx w G cX8_byQuotas RX8 9 none { frames := 1, cells := 0, slots := 0, locals := 27 }) (hX : WF dd m) (hp : PB m o 8) (h : fX8_byQuotas_101 d o a1 a2 v3 v4 v5 s0 = some x) (K : (Sum.elim (fX8_byQuotas_5P w l G (QM w G WF none d' m 0 0) m o a1 a2) (fun q => q = d')) x) : V w l WF G (QM w G WF none d' m 0 0) d m 0 0 101 [mA o, mI a1, mI a2, mI v3, mI v4, mI v5, mU, mU, mU] [mI s0] := by
  unfold fX8_byQuotas_101 at h
  refine v_istore F dX8_byQuotas_101 (Nat.le_of_ble_eq_true rfl) (L' := [mA o, mI a1, mI a2, mI v3, mI v4, mI v5, mU, mI s0, mU]) rfl ?_
  refine v_aload_n F dX8_byQuotas_103 rfl rfl ?_
  obtain ⟨x27, ex27, h⟩ := lv_some h
  obtain ⟨hn29, h⟩ := ck_some h
  refine gf_X8_131 F dX8_byQuotas_104 hp ex27 fun hr28 => ?_
  have x27p := hr28.resolve_left hn29
  refine gf_X8_277 F dX8_byQuotas_107 x27p ?_
  refine v_bipush F dX8_byQuotas_110 rfl ⟨by decide, by decide⟩ ?_
  refine v_icmp_ne F dX8_byQuotas_112 rfl (fun hq30 => ?_) (fun hq30 => ?_)
  · rw [if_neg hq30] at h
    refine v_aload_n F dX8_byQuotas_128 rfl rfl ?_
    refine gf_X8_425 F dX8_byQuotas_129 hp ?_
    exact fX8_byQuotas_132_ok F hX hp h K
  · rw [if_pos hq30] at h
    refine v_aload_n F dX8_byQuotas_115 rfl rfl ?_
    refine gf_X8_425 F dX8_byQuotas_116 hp ?_
    refine v_iload_n F dX8_byQuotas_119 rfl rfl ?_
    refine v_iconst F dX8_byQuotas_120 ⟨by decide, by decide⟩ ?_
    refine v_iadd F dX8_byQuotas_121 ?_
    obtain ⟨x42, ex42, h⟩ := lv_some h
    refine v_nI ex42 ?_
    obtain ⟨hz43, h⟩ := ck_some h
    refine v_idiv F dX8_byQuotas_122 hz43 ?_
    refine v_iconst F dX8_byQuotas_123 ⟨by decide, by decide⟩ ?_
    refine v_iadd F dX8_byQuotas_124 ?_
    refine v_goto F dX8_byQuotas_125 rfl ?_
    exact fX8_byQuotas_132_ok F hX hp h K
theorem fX8_byQuotas_65_ok {w : Wd} {l : Launch} {G : Cx} {d m dd : Dt} {o a1 a2 v3 v4 v5 s0 : Int} {d' : Dt} {x : ((Dt × Int × Int) ⊕ Dt)} (F : Fx w G cX8_byQuotas RX8 9 none { frames := 1, cells := 0, slots := 0, locals := 27 }) (hX : WF dd m) (hp : PB m o 8) (h : fX8_byQuotas_65 d o a1 a2 v3 v4 v5 s0 = some x) (K : (Sum.elim (fX8_byQuotas_5P w l G (QM w G WF none d' m 0 0) m o a1 a2) (fun q => q = d')) x) : V w l WF G (QM w G WF none d' m 0 0) d m 0 0 65 [mA o, mI a1, mI a2, mI v3, mI v4, mI v5, mU, mU, mU] [mI s0] := by
  unfold fX8_byQuotas_65 at h
  refine v_istore F dX8_byQuotas_65 (Nat.le_of_ble_eq_true rfl) (L' := [mA o, mI a1, mI a2, mI v3, mI v4, mI v5, mI s0, mU, mU]) rfl ?_
  refine v_aload_n F dX8_byQuotas_67 rfl rfl ?_
  obtain ⟨x22, ex22, h⟩ := lv_some h
  obtain ⟨hn24, h⟩ := ck_some h
  refine gf_X8_131 F dX8_byQuotas_68 hp ex22 fun hr23 => ?_
  have x22p := hr23.resolve_left hn24
  refine gf_X8_277 F dX8_byQuotas_71 x22p ?_
  refine v_bipush F dX8_byQuotas_74 rfl ⟨by decide, by decide⟩ ?_
  refine v_icmp_ne F dX8_byQuotas_76 rfl (fun hq25 => ?_) (fun hq25 => ?_)
  · rw [if_neg hq25] at h
    refine v_aload_n F dX8_byQuotas_89 rfl rfl ?_
    refine gf_X8_104 F dX8_byQuotas_90 hp (v := (o + 233)) rfl ?_
    refine v_iload F dX8_byQuotas_93 rfl ?_
    obtain ⟨hi26, h⟩ := ck_some h
    refine v_iald F dX8_byQuotas_95 (ar_X8_43 hX hp) hi26 ?_
    refine v_iload_n F dX8_byQuotas_96 rfl rfl ?_
    refine v_iload F dX8_byQuotas_97 rfl ?_
    refine v_iadd F dX8_byQuotas_99 ?_
    refine v_imul F dX8_byQuotas_100 ?_
    refine v_fgt (L' := [mA o, mI a1, mI a2, mI v3, mI v4, mI v5, mU, mU, mU]) ⟨Or.inl rfl, Or.inl rfl, Or.inl rfl, Or.inl rfl, Or.inl rfl, Or.inl rfl, Or.inr rfl, Or.inl rfl, Or.inl rfl, trivial⟩ ?_
    exact fX8_byQuotas_101_ok F hX hp h K
  · rw [if_pos hq25] at h
    refine v_aload_n F dX8_byQuotas_79 rfl rfl ?_
    refine gf_X8_104 F dX8_byQuotas_80 hp (v := (o + 233)) rfl ?_
    refine v_iload F dX8_byQuotas_83 rfl ?_
    obtain ⟨hi44, h⟩ := ck_some h
    refine v_iald F dX8_byQuotas_85 (ar_X8_43 hX hp) hi44 ?_
    refine v_goto F dX8_byQuotas_86 rfl ?_
    refine v_fgt (L' := [mA o, mI a1, mI a2, mI v3, mI v4, mI v5, mU, mU, mU]) ⟨Or.inl rfl, Or.inl rfl, Or.inl rfl, Or.inl rfl, Or.inl rfl, Or.inl rfl, Or.inr rfl, Or.inl rfl, Or.inl rfl, trivial⟩ ?_
    exact fX8_byQuotas_101_ok F hX hp h K
theorem fX8_byQuotas_5f_ok {w : Wd} {l : Launch} {G : Cx} {m dd : Dt} {o a1 a2 : Int} {d' : Dt} {s : Dt × Int × Int} {x : ((Dt × Int × Int) ⊕ Dt)} (F : Fx w G cX8_byQuotas RX8 9 none { frames := 1, cells := 0, slots := 0, locals := 27 }) (hX : WF dd m) (hp : PB m o 8) (h : fX8_byQuotas_5f o a1 a2 s = some x) (K : (Sum.elim (fX8_byQuotas_5P w l G (QM w G WF none d' m 0 0) m o a1 a2) (fun q => q = d')) x) : V w l WF G (QM w G WF none d' m 0 0) s.1 m 0 0 5 [mA o, mI a1, mI a2, mI (s.2.1), mI (s.2.2), mU, mU, mU, mU] [] := by
  obtain ⟨d, v3, v4⟩ := s
  unfold fX8_byQuotas_5f at h
  dsimp only at h
  refine v_iload F dX8_byQuotas_5 rfl ?_
  refine v_aload_n F dX8_byQuotas_7 rfl rfl ?_
  refine gf_X8_416 F dX8_byQuotas_8 hp ?_
  refine v_icmp_ge F dX8_byQuotas_11 rfl (fun hq1 => ?_) (fun hq1 => ?_)
  · rw [if_pos hq1] at h
    obtain ⟨z, hu, ez⟩ := up_some h
    clear h
    subst ez
    have h := hu
    clear hu
    refine v_aload_n F dX8_byQuotas_212 rfl rfl ?_
    obtain ⟨d2, x4, hc3, h⟩ := b2_some h
    refine v_callVv (c := 8) F dX8_byQuotas_213 cv_X8_436 rfl (PB.ob hp hX (Nat.le_of_ble_eq_true rfl)) (Nat.le_of_ble_eq_true rfl) rfl (vm_X8_sortRemainders hp hc3) rfl (rOk.of rfl) ?_
    refine v_istore F dX8_byQuotas_216 (Nat.le_of_ble_eq_true rfl) (L' := [mA o, mI a1, mI a2, mI v3, mI x4, mU, mU, mU, mU]) rfl ?_
    refine v_aload_n F dX8_byQuotas_218 rfl rfl ?_
    refine v_iload_n F dX8_byQuotas_219 rfl rfl ?_
    refine v_iload_n F dX8_byQuotas_220 rfl rfl ?_
    refine v_isub F dX8_byQuotas_221 ?_
    refine v_iload F dX8_byQuotas_222 rfl ?_
    obtain ⟨d5, hc6, h⟩ := bd_some h
    refine v_callV0 (c := 8) F dX8_byQuotas_224 cv_X8_439 rfl (PB.ob hp hX (Nat.le_of_ble_eq_true rfl)) (Nat.le_of_ble_eq_true rfl) rfl (vm_X8_takeBack hp hc6) rfl (rOk.of rfl) ?_
    refine v_aload_n F dX8_byQuotas_227 rfl rfl ?_
    refine v_iload_n F dX8_byQuotas_228 rfl rfl ?_
    refine v_iload_n F dX8_byQuotas_229 rfl rfl ?_
    refine v_isub F dX8_byQuotas_230 ?_
    refine v_iload F dX8_byQuotas_231 rfl ?_
    refine v_iload_n F dX8_byQuotas_233 rfl rfl ?_
    obtain ⟨d7, hc8, h⟩ := bd_some h
    refine v_callV0 (c := 8) F dX8_byQuotas_234 cv_X8_442 rfl (PB.ob hp hX (Nat.le_of_ble_eq_true rfl)) (Nat.le_of_ble_eq_true rfl) rfl (vm_X8_addTo hp hc8) rfl (rOk.of rfl) ?_
    cases h
    cases (show _ = d' from K)
    exact v_vret F dX8_byQuotas_237
  · rw [if_neg hq1] at h
    refine v_aload_n F dX8_byQuotas_14 rfl rfl ?_
    refine gf_X8_101 F dX8_byQuotas_15 hp (v := (o + 232)) rfl ?_
    refine v_iload F dX8_byQuotas_18 rfl ?_
    obtain ⟨hi9, h⟩ := ck_some h
    refine v_iald F dX8_byQuotas_20 (ar_X8_41 hX hp) hi9 ?_
    obtain ⟨x10, ex10, h⟩ := lv_some h
    refine v_nI ex10 ?_
    refine v_istore F dX8_byQuotas_21 (Nat.le_of_ble_eq_true rfl) (L' := [mA o, mI a1, mI a2, mI v3, mI v4, mI x10, mU, mU, mU]) rfl ?_
    refine v_aload_n F dX8_byQuotas_23 rfl rfl ?_
    refine gf_X8_110 F dX8_byQuotas_24 hp (v := (o + 235)) rfl ?_
    refine v_iload F dX8_byQuotas_27 rfl ?_
    obtain ⟨hi11, h⟩ := ck_some h
    refine v_zald F dX8_byQuotas_29 (ar_X8_45 hX hp) hi11 ?_
    refine v_if_eq F dX8_byQuotas_30 rfl (fun hq12 => ?_) (fun hq12 => ?_)
    · rw [if_pos hq12] at h
      obtain ⟨x13, ex13, h⟩ := lv_some h
      refine v_iincN F dX8_byQuotas_206 (Nat.le_of_ble_eq_true rfl) rfl ex13 (L' := [mA o, mI a1, mI a2, mI v3, mI x13, mI x10, mU, mU, mU]) rfl ?_
      refine v_goto F dX8_byQuotas_209 rfl ?_
      cases h
      refine v_fgt (L' := [mA o, mI a1, mI a2, mI v3, mI x13, mU, mU, mU, mU]) ⟨Or.inl rfl, Or.inl rfl, Or.inl rfl, Or.inl rfl, Or.inl rfl, Or.inr rfl, Or.inl rfl, Or.inl rfl, Or.inl rfl, trivial⟩ ?_
      exact K
    · rw [if_neg hq12] at h
      refine v_aload_n F dX8_byQuotas_33 rfl rfl ?_
      obtain ⟨x14, ex14, h⟩ := lv_some h
      obtain ⟨hn16, h⟩ := ck_some h
      refine gf_X8_131 F dX8_byQuotas_34 hp ex14 fun hr15 => ?_
      have x14p := hr15.resolve_left hn16
      refine gf_X8_277 F dX8_byQuotas_37 x14p ?_
      refine v_iconst F dX8_byQuotas_40 ⟨by decide, by decide⟩ ?_
      refine v_icmp_ne F dX8_byQuotas_41 rfl (fun hq17 => ?_) (fun hq17 => ?_)
      · rw [if_neg hq17] at h
        refine v_aload_n F dX8_byQuotas_48 rfl rfl ?_
        obtain ⟨x18, ex18, h⟩ := lv_some h
        obtain ⟨hn20, h⟩ := ck_some h
        refine gf_X8_131 F dX8_byQuotas_49 hp ex18 fun hr19 => ?_
        have x18p := hr19.resolve_left hn20
        refine gf_X8_277 F dX8_byQuotas_52 x18p ?_
        refine v_bipush F dX8_byQuotas_55 rfl ⟨by decide, by decide⟩ ?_
        refine v_icmp_ne F dX8_byQuotas_57 rfl (fun hq21 => ?_) (fun hq21 => ?_)
        · rw [if_neg hq21] at h
          refine v_iconst F dX8_byQuotas_64 ⟨by decide, by decide⟩ ?_
          exact fX8_byQuotas_65_ok F hX hp h K
        · rw [if_pos hq21] at h
          refine v_iconst F dX8_byQuotas_60 ⟨by decide, by decide⟩ ?_
          refine v_goto F dX8_byQuotas_61 rfl ?_
          exact fX8_byQuotas_65_ok F hX hp h K
      · rw [if_pos hq17] at h
        refine v_iconst F dX8_byQuotas_44 ⟨by decide, by decide⟩ ?_
        refine v_goto F dX8_byQuotas_45 rfl ?_
        exact fX8_byQuotas_65_ok F hX hp h K
theorem fX8_byQuotas_5_ok {w : Wd} {l : Launch} {G : Cx} {d m dd : Dt} {o a1 a2 v3 v4 : Int} {d' : Dt} {x : Dt} (F : Fx w G cX8_byQuotas RX8 9 none { frames := 1, cells := 0, slots := 0, locals := 27 }) (hX : WF dd m) (hp : PB m o 8) (h : fX8_byQuotas_5 d o a1 a2 v3 v4 = some x) (K : (fun q => q = d') x) : V w l WF G (QM w G WF none d' m 0 0) d m 0 0 5 [mA o, mI a1, mI a2, mI v3, mI v4, mU, mU, mU, mU] [] := by
  unfold fX8_byQuotas_5 at h
  exact loop_ok (P := fX8_byQuotas_5P w l G (QM w G WF none d' m 0 0) m o a1 a2) (fun s x hx h1 h2 => fX8_byQuotas_5f_ok F hX hp hx (by
    cases x with
    | inl s' => exact h1 s' rfl
    | inr z => cases h2 z rfl; exact K)) h
theorem vm_X8_byQuotas {w : Wd} {l : Launch} {d m : Dt} {o a1 a2 : Int} {d' : Dt} (hp : PB m o 8) (h : fX8_byQuotas d o a1 a2 = some d') : VM w l WF yX8_byQuotas cX8_byQuotas 9 none 1 27 0 0 d m [mA o, mI a1, mI a2] none d' m := by
  obtain ⟨x, h, K⟩ : ∃ x, fX8_byQuotas d o a1 a2 = some x ∧ x = d' := ⟨_, h, rfl⟩
  refine VM.of (L := [mA o, mI a1, mI a2, mU, mU, mU, mU, mU, mU]) (by decide +kernel) rfl (Nat.le_of_ble_eq_true rfl) fun G F _ => v_fact fun _ hX _ _ => ?_
  unfold fX8_byQuotas at h
  refine v_iconst F dX8_byQuotas_0 ⟨by decide, by decide⟩ ?_
  refine v_istore_n F dX8_byQuotas_1 rfl (Nat.le_of_ble_eq_true rfl) (L' := [mA o, mI a1, mI a2, mI 0, mU, mU, mU, mU, mU]) rfl ?_
  refine v_iconst F dX8_byQuotas_2 ⟨by decide, by decide⟩ ?_
  refine v_istore F dX8_byQuotas_3 (Nat.le_of_ble_eq_true rfl) (L' := [mA o, mI a1, mI a2, mI 0, mI 0, mU, mU, mU, mU]) rfl ?_
  exact fX8_byQuotas_5_ok F hX hp h K
theorem vm_X8_deal {w : Wd} {l : Launch} {d m : Dt} {o a1 a2 : Int} {d' : Dt} (hp : PB m o 8) (h : fX8_deal d o a1 a2 = some d') : VM w l WF yX8_deal cX8_deal 3 none 2 55 0 0 d m [mA o, mI a1, mI a2] none d' m := by
  obtain ⟨x, h, K⟩ : ∃ x, fX8_deal d o a1 a2 = some x ∧ x = d' := ⟨_, h, rfl⟩
  refine VM.of (L := [mA o, mI a1, mI a2]) (by decide +kernel) rfl (Nat.le_of_ble_eq_true rfl) fun G F _ => v_fact fun _ hX _ _ => ?_
  unfold fX8_deal at h
  refine v_aload_n F dX8_deal_0 rfl rfl ?_
  refine gf_X8_113 F dX8_deal_1 hp (v := (o + 236)) rfl ?_
  refine v_iconst F dX8_deal_4 ⟨by decide, by decide⟩ ?_
  obtain ⟨d1, hc2, h⟩ := bd_some h
  refine v_callS0 F dX8_deal_5 cs_X8_419 rfl (vm_J4_fill_2 (ar_X8_46 hX hp) hc2) rfl (rOk.of rfl) ?_
  refine v_aload_n F dX8_deal_8 rfl rfl ?_
  obtain ⟨x3, ex3, h⟩ := lv_some h
  obtain ⟨hn5, h⟩ := ck_some h
  refine gf_X8_131 F dX8_deal_9 hp ex3 fun hr4 => ?_
  have x3p := hr4.resolve_left hn5
  refine gf_X8_277 F dX8_deal_12 x3p ?_
  refine v_iconst F dX8_deal_15 ⟨by decide, by decide⟩ ?_
  refine v_icmp_ge F dX8_deal_16 rfl (fun hq6 => ?_) (fun hq6 => ?_)
  · rw [if_pos hq6] at h
    refine v_aload_n F dX8_deal_28 rfl rfl ?_
    refine v_iload_n F dX8_deal_29 rfl rfl ?_
    refine v_iload_n F dX8_deal_30 rfl rfl ?_
    obtain ⟨d7, hc8, h⟩ := bd_some h
    refine v_callV0 (c := 8) F dX8_deal_31 cv_X8_450 rfl (PB.ob hp hX (Nat.le_of_ble_eq_true rfl)) (Nat.le_of_ble_eq_true rfl) rfl (vm_X8_byQuotas hp hc8) rfl (rOk.of rfl) ?_
    cases h
    cases (show _ = d' from K)
    exact v_vret F dX8_deal_34
  · rw [if_neg hq6] at h
    refine v_aload_n F dX8_deal_19 rfl rfl ?_
    refine v_iload_n F dX8_deal_20 rfl rfl ?_
    refine v_iload_n F dX8_deal_21 rfl rfl ?_
    obtain ⟨d9, hc10, h⟩ := bd_some h
    refine v_callV0 (c := 8) F dX8_deal_22 cv_X8_446 rfl (PB.ob hp hX (Nat.le_of_ble_eq_true rfl)) (Nat.le_of_ble_eq_true rfl) rfl (vm_X8_byDivisors hp hc10) rfl (rOk.of rfl) ?_
    refine v_goto F dX8_deal_25 rfl ?_
    cases h
    cases (show _ = d' from K)
    exact v_vret F dX8_deal_34
def fX8_isOver_4P (w : Wd) (l : Launch) (G : Cx) (Q : State → Prop) (m : Dt) (d : Dt) (o : Int) (s : Int × Int) : Prop := V w l WF G Q d m 0 0 4 [mA o, mI (s.1), mI (s.2), mU] []
theorem fX8_isOver_48_ok {w : Wd} {l : Launch} {G : Cx} {d m dd : Dt} {o v2 s0 s1 : Int} {r : Int} {x : ((Int × Int) ⊕ Int)} (F : Fx w G cX8_isOver RX8 4 (some .boolean) { frames := 1, cells := 0, slots := 0, locals := 21 }) (hX : WF dd m) (hp : PB m o 8) (h : fX8_isOver_48 d o v2 s0 s1 = some x) (K : (Sum.elim (fX8_isOver_4P w l G (QM w G WF (some (mI r)) d m 0 0) m d o) (fun q => q = r)) x) : V w l WF G (QM w G WF (some (mI r)) d m 0 0) d m 0 0 48 [mA o, mU, mI v2, mU] [mI s1, mI s0] := by
  unfold fX8_isOver_48 at h
  refine v_ior F dX8_isOver_48 ?_
  obtain ⟨x6, ex6, h⟩ := lv_some h
  refine v_nI ex6 ?_
  refine v_istore_n F dX8_isOver_49 rfl (Nat.le_of_ble_eq_true rfl) (L' := [mA o, mI x6, mI v2, mU]) rfl ?_
  obtain ⟨x7, ex7, h⟩ := lv_some h
  refine v_iincN F dX8_isOver_50 (Nat.le_of_ble_eq_true rfl) rfl ex7 (L' := [mA o, mI x6, mI x7, mU]) rfl ?_
  refine v_goto F dX8_isOver_53 rfl ?_
  cases h
  exact K
theorem fX8_isOver_4f_ok {w : Wd} {l : Launch} {G : Cx} {d m dd : Dt} {o : Int} {r : Int} {s : Int × Int} {x : ((Int × Int) ⊕ Int)} (F : Fx w G cX8_isOver RX8 4 (some .boolean) { frames := 1, cells := 0, slots := 0, locals := 21 }) (hX : WF dd m) (hp : PB m o 8) (h : fX8_isOver_4f d o s = some x) (K : (Sum.elim (fX8_isOver_4P w l G (QM w G WF (some (mI r)) d m 0 0) m d o) (fun q => q = r)) x) : V w l WF G (QM w G WF (some (mI r)) d m 0 0) d m 0 0 4 [mA o, mI (s.1), mI (s.2), mU] [] := by
  obtain ⟨v1, v2⟩ := s
  unfold fX8_isOver_4f at h
  dsimp only at h
  refine v_iload_n F dX8_isOver_4 rfl rfl ?_
  refine v_aload_n F dX8_isOver_5 rfl rfl ?_
  refine gf_X8_416 F dX8_isOver_6 hp ?_
  refine v_icmp_ge F dX8_isOver_9 rfl (fun hq1 => ?_) (fun hq1 => ?_)
  · rw [if_pos hq1] at h
    obtain ⟨z, hu, ez⟩ := up_some h
    clear h
    subst ez
    have h := hu
    clear hu
    refine v_iload_n F dX8_isOver_56 rfl rfl ?_
    obtain ⟨hb, h⟩ := ck_some h
    cases h
    cases (show _ = r from K)
    exact v_zret F hb dX8_isOver_57
  · rw [if_neg hq1] at h
    refine v_aload_n F dX8_isOver_12 rfl rfl ?_
    refine gf_X8_101 F dX8_isOver_13 hp (v := (o + 232)) rfl ?_
    refine v_iload_n F dX8_isOver_16 rfl rfl ?_
    obtain ⟨hi2, h⟩ := ck_some h
    refine v_iald F dX8_isOver_17 (ar_X8_41 hX hp) hi2 ?_
    obtain ⟨x3, ex3, h⟩ := lv_some h
    refine v_nI ex3 ?_
    refine v_istore_n F dX8_isOver_18 rfl (Nat.le_of_ble_eq_true rfl) (L' := [mA o, mI v1, mI v2, mI x3]) rfl ?_
    refine v_iload_n F dX8_isOver_19 rfl rfl ?_
    refine v_aload_n F dX8_isOver_20 rfl rfl ?_
    refine gf_X8_110 F dX8_isOver_21 hp (v := (o + 235)) rfl ?_
    refine v_iload_n F dX8_isOver_24 rfl rfl ?_
    obtain ⟨hi4, h⟩ := ck_some h
    refine v_zald F dX8_isOver_25 (ar_X8_45 hX hp) hi4 ?_
    refine v_if_eq F dX8_isOver_26 rfl (fun hq5 => ?_) (fun hq5 => ?_)
    · rw [if_pos hq5] at h
      refine v_iconst F dX8_isOver_47 ⟨by decide, by decide⟩ ?_
      refine v_fgt (L' := [mA o, mU, mI v2, mU]) ⟨Or.inl rfl, Or.inr rfl, Or.inl rfl, Or.inr rfl, trivial⟩ ?_
      exact fX8_isOver_48_ok F hX hp h K
    · rw [if_neg hq5] at h
      refine v_aload_n F dX8_isOver_29 rfl rfl ?_
      refine v_iload_n F dX8_isOver_30 rfl rfl ?_
      obtain ⟨x8, hc9, h⟩ := b1_some h
      refine v_callVv (c := 8) F dX8_isOver_31 cv_X8_453 rfl (PB.ob hp hX (Nat.le_of_ble_eq_true rfl)) (Nat.le_of_ble_eq_true rfl) rfl (vm_X8_firstOf hp hc9) rfl (rOk.of rfl) ?_
      refine v_aload_n F dX8_isOver_34 rfl rfl ?_
      refine gf_X8_113 F dX8_isOver_35 hp (v := (o + 236)) rfl ?_
      refine v_iload_n F dX8_isOver_38 rfl rfl ?_
      refine v_iald F dX8_isOver_39 (ar_X8_46 hX hp) hi4 ?_
      refine v_icmp_le F dX8_isOver_40 rfl (fun hq10 => ?_) (fun hq10 => ?_)
      · rw [if_pos hq10] at h
        refine v_iconst F dX8_isOver_47 ⟨by decide, by decide⟩ ?_
        refine v_fgt (L' := [mA o, mU, mI v2, mU]) ⟨Or.inl rfl, Or.inr rfl, Or.inl rfl, Or.inr rfl, trivial⟩ ?_
        exact fX8_isOver_48_ok F hX hp h K
      · rw [if_neg hq10] at h
        refine v_iconst F dX8_isOver_43 ⟨by decide, by decide⟩ ?_
        refine v_goto F dX8_isOver_44 rfl ?_
        refine v_fgt (L' := [mA o, mU, mI v2, mU]) ⟨Or.inl rfl, Or.inr rfl, Or.inl rfl, Or.inr rfl, trivial⟩ ?_
        exact fX8_isOver_48_ok F hX hp h K
theorem fX8_isOver_4_ok {w : Wd} {l : Launch} {G : Cx} {d m dd : Dt} {o v1 v2 : Int} {r : Int} {x : Int} (F : Fx w G cX8_isOver RX8 4 (some .boolean) { frames := 1, cells := 0, slots := 0, locals := 21 }) (hX : WF dd m) (hp : PB m o 8) (h : fX8_isOver_4 d o v1 v2 = some x) (K : (fun q => q = r) x) : V w l WF G (QM w G WF (some (mI r)) d m 0 0) d m 0 0 4 [mA o, mI v1, mI v2, mU] [] := by
  unfold fX8_isOver_4 at h
  exact loop_ok (P := fX8_isOver_4P w l G (QM w G WF (some (mI r)) d m 0 0) m d o) (fun s x hx h1 h2 => fX8_isOver_4f_ok F hX hp hx (by
    cases x with
    | inl s' => exact h1 s' rfl
    | inr z => cases h2 z rfl; exact K)) h
theorem vm_X8_isOver {w : Wd} {l : Launch} {d m : Dt} {o : Int} {r : Int} (hp : PB m o 8) (h : fX8_isOver d o = some r) : VM w l WF yX8_isOver cX8_isOver 4 (some .boolean) 1 21 0 0 d m [mA o] (some (mI r)) d m := by
  obtain ⟨x, h, K⟩ : ∃ x, fX8_isOver d o = some x ∧ x = r := ⟨_, h, rfl⟩
  refine VM.of (L := [mA o, mU, mU, mU]) (by decide +kernel) rfl (Nat.le_of_ble_eq_true rfl) fun G F _ => v_fact fun _ hX _ _ => ?_
  unfold fX8_isOver at h
  refine v_iconst F dX8_isOver_0 ⟨by decide, by decide⟩ ?_
  refine v_istore_n F dX8_isOver_1 rfl (Nat.le_of_ble_eq_true rfl) (L' := [mA o, mI 0, mU, mU]) rfl ?_
  refine v_iconst F dX8_isOver_2 ⟨by decide, by decide⟩ ?_
  refine v_istore_n F dX8_isOver_3 rfl (Nat.le_of_ble_eq_true rfl) (L' := [mA o, mI 0, mI 0, mU]) rfl ?_
  exact fX8_isOver_4_ok F hX hp h K
def fX8_level_4P (w : Wd) (l : Launch) (G : Cx) (Q : State → Prop) (m : Dt) (d : Dt) (o : Int) (s : Int × Int) : Prop := V w l WF G Q d m 0 0 4 [mA o, mI (s.1), mI (s.2), mU, mU] []
def fX8_level_72P (w : Wd) (l : Launch) (G : Cx) (Q : State → Prop) (m : Dt) (o v1 v2 : Int) (s : Dt) : Prop := V w l WF G Q s m 0 0 72 [mA o, mI v1, mI v2, mU, mU] []
def fX8_level_118P (w : Wd) (l : Launch) (G : Cx) (Q : State → Prop) (m : Dt) (o : Int) (s : Dt × Int) : Prop := V w l WF G Q s.1 m 0 0 118 [mA o, mU, mU, mI (s.2), mU] []
theorem fX8_level_118f_ok {w : Wd} {l : Launch} {G : Cx} {m dd : Dt} {o : Int} {d' : Dt} {s : Dt × Int} {x : ((Dt × Int) ⊕ Dt)} (F : Fx w G cX8_level RX8 5 none { frames := 3, cells := 0, slots := 0, locals := 77 }) (hX : WF dd m) (hp : PB m o 8) (h : fX8_level_118f o s = some x) (K : (Sum.elim (fX8_level_118P w l G (QM w G WF none d' m 0 0) m o) (fun q => q = d')) x) : V w l WF G (QM w G WF none d' m 0 0) s.1 m 0 0 118 [mA o, mU, mU, mI (s.2), mU] [] := by
  obtain ⟨d, v3⟩ := s
  unfold fX8_level_118f at h
  dsimp only at h
  refine v_iload_n F dX8_level_118 rfl rfl ?_
  refine v_aload_n F dX8_level_119 rfl rfl ?_
  refine gf_X8_416 F dX8_level_120 hp ?_
  refine v_icmp_ge F dX8_level_123 rfl (fun hq6 => ?_) (fun hq6 => ?_)
  · rw [if_pos hq6] at h
    obtain ⟨z, hu, ez⟩ := up_some h
    clear h
    subst ez
    have h := hu
    clear hu
    cases h
    cases (show _ = d' from K)
    exact v_vret F dX8_level_165
  · rw [if_neg hq6] at h
    refine v_aload_n F dX8_level_126 rfl rfl ?_
    refine gf_X8_101 F dX8_level_127 hp (v := (o + 232)) rfl ?_
    refine v_iload_n F dX8_level_130 rfl rfl ?_
    obtain ⟨hi7, h⟩ := ck_some h
    refine v_iald F dX8_level_131 (ar_X8_41 hX hp) hi7 ?_
    obtain ⟨x8, ex8, h⟩ := lv_some h
    refine v_nI ex8 ?_
    refine v_istore F dX8_level_132 (Nat.le_of_ble_eq_true rfl) (L' := [mA o, mU, mU, mI v3, mI x8]) rfl ?_
    refine v_aload_n F dX8_level_134 rfl rfl ?_
    refine gf_X8_113 F dX8_level_135 hp (v := (o + 236)) rfl ?_
    refine v_iload F dX8_level_138 rfl ?_
    refine v_iconst F dX8_level_140 ⟨by decide, by decide⟩ ?_
    refine v_aload_n F dX8_level_141 rfl rfl ?_
    refine gf_X8_113 F dX8_level_142 hp (v := (o + 236)) rfl ?_
    refine v_iload F dX8_level_145 rfl ?_
    obtain ⟨hi9, h⟩ := ck_some h
    refine v_iald F dX8_level_147 (ar_X8_46 hX hp) hi9 ?_
    refine v_aload_n F dX8_level_148 rfl rfl ?_
    refine v_iload F dX8_level_149 rfl ?_
    obtain ⟨x10, hc11, h⟩ := b1_some h
    refine v_callVv (c := 8) F dX8_level_151 cv_X8_453 rfl (PB.ob hp hX (Nat.le_of_ble_eq_true rfl)) (Nat.le_of_ble_eq_true rfl) rfl (vm_X8_firstOf hp hc11) rfl (rOk.of rfl) ?_
    refine v_isub F dX8_level_154 ?_
    refine v_callSv F dX8_level_155 cs_X8_378 rfl (vm_J9_max) rfl (rOk.of rfl) ?_
    obtain ⟨d12, ed12, h⟩ := sd_some h
    refine v_iast F dX8_level_158 (ar_X8_46 hX hp) hi9 ?_
    refine v_nD ed12 ?_
    obtain ⟨x13, ex13, h⟩ := lv_some h
    refine v_iincN F dX8_level_159 (Nat.le_of_ble_eq_true rfl) rfl ex13 (L' := [mA o, mU, mU, mI x13, mI x8]) rfl ?_
    refine v_goto F dX8_level_162 rfl ?_
    cases h
    refine v_fgt (L' := [mA o, mU, mU, mI x13, mU]) ⟨Or.inl rfl, Or.inl rfl, Or.inl rfl, Or.inl rfl, Or.inr rfl, trivial⟩ ?_
    exact K
theorem fX8_level_118_ok {w : Wd} {l : Launch} {G : Cx} {d m dd : Dt} {o v3 : Int} {d' : Dt} {x : Dt} (F : Fx w G cX8_level RX8 5 none { frames := 3, cells := 0, slots := 0, locals := 77 }) (hX : WF dd m) (hp : PB m o 8) (h : fX8_level_118 d o v3 = some x) (K : (fun q => q = d') x) : V w l WF G (QM w G WF none d' m 0 0) d m 0 0 118 [mA o, mU, mU, mI v3, mU] [] := by
  unfold fX8_level_118 at h
  exact loop_ok (P := fX8_level_118P w l G (QM w G WF none d' m 0 0) m o) (fun s x hx h1 h2 => fX8_level_118f_ok F hX hp hx (by
    cases x with
    | inl s' => exact h1 s' rfl
    | inr z => cases h2 z rfl; exact K)) h
theorem fX8_level_72f_ok {w : Wd} {l : Launch} {G : Cx} {m dd : Dt} {o v1 v2 : Int} {d' : Dt} {s : Dt} {x : ((Dt) ⊕ Dt)} (F : Fx w G cX8_level RX8 5 none { frames := 3, cells := 0, slots := 0, locals := 77 }) (hX : WF dd m) (hp : PB m o 8) (h : fX8_level_72f o v1 v2 s = some x) (K : (Sum.elim (fX8_level_72P w l G (QM w G WF none d' m 0 0) m o v1 v2) (fun q => q = d')) x) : V w l WF G (QM w G WF none d' m 0 0) s m 0 0 72 [mA o, mI v1, mI v2, mU, mU] [] := by
  obtain ⟨d, rfl⟩ : ∃ z, z = s := ⟨s, rfl⟩
  unfold fX8_level_72f at h
  dsimp only at h
  refine v_aload_n F dX8_level_72 rfl rfl ?_
  refine gf_X8_170 F dX8_level_73 hp ?_
  refine v_iload_n F dX8_level_76 rfl rfl ?_
  refine v_icmp_ge F dX8_level_77 rfl (fun hq5 => ?_) (fun hq5 => ?_)
  · rw [if_pos hq5] at h
    obtain ⟨z, hu, ez⟩ := up_some h
    clear h
    subst ez
    have h := hu
    clear hu
    refine v_iconst F dX8_level_116 ⟨by decide, by decide⟩ ?_
    refine v_istore_n F dX8_level_117 rfl (Nat.le_of_ble_eq_true rfl) (L' := [mA o, mI v1, mI v2, mI 0, mU]) rfl ?_
    refine v_fgt (L' := [mA o, mU, mU, mI 0, mU]) ⟨Or.inl rfl, Or.inr rfl, Or.inr rfl, Or.inl rfl, Or.inl rfl, trivial⟩ ?_
    exact fX8_level_118_ok F hX hp h K
  · rw [if_neg hq5] at h
    refine v_aload_n F dX8_level_80 rfl rfl ?_
    obtain ⟨x14, hc15, h⟩ := b1_some h
    refine v_callVv (c := 8) F dX8_level_81 cv_X8_462 rfl (PB.ob hp hX (Nat.le_of_ble_eq_true rfl)) (Nat.le_of_ble_eq_true rfl) rfl (vm_X8_isOver hp hc15) rfl (rOk.of rfl) ?_
    refine v_if_eq F dX8_level_84 rfl (fun hq16 => ?_) (fun hq16 => ?_)
    · rw [if_pos hq16] at h
      obtain ⟨z, hu, ez⟩ := up_some h
      clear h
      subst ez
      have h := hu
      clear hu
      refine v_iconst F dX8_level_116 ⟨by decide, by decide⟩ ?_
      refine v_istore_n F dX8_level_117 rfl (Nat.le_of_ble_eq_true rfl) (L' := [mA o, mI v1, mI v2, mI 0, mU]) rfl ?_
      refine v_fgt (L' := [mA o, mU, mU, mI 0, mU]) ⟨Or.inl rfl, Or.inr rfl, Or.inr rfl, Or.inl rfl, Or.inl rfl, trivial⟩ ?_
      exact fX8_level_118_ok F hX hp h K
    · rw [if_neg hq16] at h
      refine v_aload_n F dX8_level_87 rfl rfl ?_
      refine v_dup_A F dX8_level_88 ?_
      refine gf_X8_170 F dX8_level_89 hp ?_
      refine v_iconst F dX8_level_92 ⟨by decide, by decide⟩ ?_
      refine v_iadd F dX8_level_93 ?_
      obtain ⟨d17, ed17, h⟩ := sd_some h
      refine pf_X8_170 F dX8_level_94 hp ?_
      refine v_nD ed17 ?_
      refine v_aload_n F dX8_level_97 rfl rfl ?_
      refine v_aload_n F dX8_level_98 rfl rfl ?_
      refine gf_X8_170 F dX8_level_99 hp ?_
      refine v_aload_n F dX8_level_102 rfl rfl ?_
      refine gf_X8_456 F dX8_level_103 hp ?_
      refine v_isub F dX8_level_106 ?_
      refine v_iload_n F dX8_level_107 rfl rfl ?_
      refine v_iadd F dX8_level_108 ?_
      refine v_iconst F dX8_level_109 ⟨by decide, by decide⟩ ?_
      obtain ⟨d18, hc19, h⟩ := bd_some h
      refine v_callV0 (c := 8) F dX8_level_110 cv_X8_459 rfl (PB.ob hp hX (Nat.le_of_ble_eq_true rfl)) (Nat.le_of_ble_eq_true rfl) rfl (vm_X8_deal hp hc19) rfl (rOk.of rfl) ?_
      refine v_goto F dX8_level_113 rfl ?_
      cases h
      exact K
theorem fX8_level_72_ok {w : Wd} {l : Launch} {G : Cx} {d m dd : Dt} {o v1 v2 : Int} {d' : Dt} {x : Dt} (F : Fx w G cX8_level RX8 5 none { frames := 3, cells := 0, slots := 0, locals := 77 }) (hX : WF dd m) (hp : PB m o 8) (h : fX8_level_72 d o v1 v2 = some x) (K : (fun q => q = d') x) : V w l WF G (QM w G WF none d' m 0 0) d m 0 0 72 [mA o, mI v1, mI v2, mU, mU] [] := by
  unfold fX8_level_72 at h
  exact loop_ok (P := fX8_level_72P w l G (QM w G WF none d' m 0 0) m o v1 v2) (fun s x hx h1 h2 => fX8_level_72f_ok F hX hp hx (by
    cases x with
    | inl s' => exact h1 s' rfl
    | inr z => cases h2 z rfl; exact K)) h
theorem fX8_level_41_ok {w : Wd} {l : Launch} {G : Cx} {d m dd : Dt} {o v2 s0 s1 : Int} {d' : Dt} {x : ((Int × Int) ⊕ Dt)} (F : Fx w G cX8_level RX8 5 none { frames := 3, cells := 0, slots := 0, locals := 77 }) (hX : WF dd m) (hp : PB m o 8) (h : fX8_level_41 d o v2 s0 s1 = some x) (K : (Sum.elim (fX8_level_4P w l G (QM w G WF none d' m 0 0) m d o) (fun q => q = d')) x) : V w l WF G (QM w G WF none d' m 0 0) d m 0 0 41 [mA o, mU, mI v2, mU, mU] [mI s1, mI s0] := by
  unfold fX8_level_41 at h
  refine v_iadd F dX8_level_41 ?_
  obtain ⟨x24, ex24, h⟩ := lv_some h
  refine v_nI ex24 ?_
  refine v_istore_n F dX8_level_42 rfl (Nat.le_of_ble_eq_true rfl) (L' := [mA o, mI x24, mI v2, mU, mU]) rfl ?_
  obtain ⟨x25, ex25, h⟩ := lv_some h
  refine v_iincN F dX8_level_43 (Nat.le_of_ble_eq_true rfl) rfl ex25 (L' := [mA o, mI x24, mI x25, mU, mU]) rfl ?_
  refine v_goto F dX8_level_46 rfl ?_
  cases h
  exact K
theorem fX8_level_4f_ok {w : Wd} {l : Launch} {G : Cx} {d m dd : Dt} {o : Int} {d' : Dt} {s : Int × Int} {x : ((Int × Int) ⊕ Dt)} (F : Fx w G cX8_level RX8 5 none { frames := 3, cells := 0, slots := 0, locals := 77 }) (hX : WF dd m) (hp : PB m o 8) (h : fX8_level_4f d o s = some x) (K : (Sum.elim (fX8_level_4P w l G (QM w G WF none d' m 0 0) m d o) (fun q => q = d')) x) : V w l WF G (QM w G WF none d' m 0 0) d m 0 0 4 [mA o, mI (s.1), mI (s.2), mU, mU] [] := by
  obtain ⟨v1, v2⟩ := s
  unfold fX8_level_4f at h
  dsimp only at h
  refine v_iload_n F dX8_level_4 rfl rfl ?_
  refine v_aload_n F dX8_level_5 rfl rfl ?_
  refine gf_X8_416 F dX8_level_6 hp ?_
  refine v_icmp_ge F dX8_level_9 rfl (fun hq1 => ?_) (fun hq1 => ?_)
  · rw [if_pos hq1] at h
    obtain ⟨z, hu, ez⟩ := up_some h
    clear h
    subst ez
    have h := hu
    clear hu
    refine v_aload_n F dX8_level_49 rfl rfl ?_
    refine v_aload_n F dX8_level_50 rfl rfl ?_
    refine gf_X8_170 F dX8_level_51 hp ?_
    refine v_aload_n F dX8_level_54 rfl rfl ?_
    refine gf_X8_456 F dX8_level_55 hp ?_
    refine v_isub F dX8_level_58 ?_
    refine v_iload_n F dX8_level_59 rfl rfl ?_
    refine v_iadd F dX8_level_60 ?_
    refine v_iconst F dX8_level_61 ⟨by decide, by decide⟩ ?_
    obtain ⟨d2, hc3, h⟩ := bd_some h
    refine v_callV0 (c := 8) F dX8_level_62 cv_X8_459 rfl (PB.ob hp hX (Nat.le_of_ble_eq_true rfl)) (Nat.le_of_ble_eq_true rfl) rfl (vm_X8_deal hp hc3) rfl (rOk.of rfl) ?_
    refine v_iconst F dX8_level_65 ⟨by decide, by decide⟩ ?_
    refine v_aload_n F dX8_level_66 rfl rfl ?_
    refine gf_X8_170 F dX8_level_67 hp ?_
    refine v_imul F dX8_level_70 ?_
    obtain ⟨x4, ex4, h⟩ := lv_some h
    refine v_nI ex4 ?_
    refine v_istore_n F dX8_level_71 rfl (Nat.le_of_ble_eq_true rfl) (L' := [mA o, mI v1, mI x4, mU, mU]) rfl ?_
    exact fX8_level_72_ok F hX hp h K
  · rw [if_neg hq1] at h
    refine v_iload_n F dX8_level_12 rfl rfl ?_
    refine v_aload_n F dX8_level_13 rfl rfl ?_
    refine gf_X8_110 F dX8_level_14 hp (v := (o + 235)) rfl ?_
    refine v_aload_n F dX8_level_17 rfl rfl ?_
    refine gf_X8_101 F dX8_level_18 hp (v := (o + 232)) rfl ?_
    refine v_iload_n F dX8_level_21 rfl rfl ?_
    obtain ⟨hi20, h⟩ := ck_some h
    refine v_iald F dX8_level_22 (ar_X8_41 hX hp) hi20 ?_
    obtain ⟨x21, ex21, h⟩ := lv_some h
    refine v_nI ex21 ?_
    obtain ⟨hi22, h⟩ := ck_some h
    refine v_zald F dX8_level_23 (ar_X8_45 hX hp) hi22 ?_
    refine v_if_eq F dX8_level_24 rfl (fun hq23 => ?_) (fun hq23 => ?_)
    · rw [if_pos hq23] at h
      refine v_iconst F dX8_level_40 ⟨by decide, by decide⟩ ?_
      refine v_fgt (L' := [mA o, mU, mI v2, mU, mU]) ⟨Or.inl rfl, Or.inr rfl, Or.inl rfl, Or.inl rfl, Or.inl rfl, trivial⟩ ?_
      exact fX8_level_41_ok F hX hp h K
    · rw [if_neg hq23] at h
      refine v_aload_n F dX8_level_27 rfl rfl ?_
      refine v_aload_n F dX8_level_28 rfl rfl ?_
      refine gf_X8_101 F dX8_level_29 hp (v := (o + 232)) rfl ?_
      refine v_iload_n F dX8_level_32 rfl rfl ?_
      refine v_iald F dX8_level_33 (ar_X8_41 hX hp) hi20 ?_
      obtain ⟨x26, hc27, h⟩ := b1_some h
      refine v_callVv (c := 8) F dX8_level_34 cv_X8_453 rfl (PB.ob hp hX (Nat.le_of_ble_eq_true rfl)) (Nat.le_of_ble_eq_true rfl) rfl (vm_X8_firstOf hp hc27) rfl (rOk.of rfl) ?_
      refine v_goto F dX8_level_37 rfl ?_
      refine v_fgt (L' := [mA o, mU, mI v2, mU, mU]) ⟨Or.inl rfl, Or.inr rfl, Or.inl rfl, Or.inl rfl, Or.inl rfl, trivial⟩ ?_
      exact fX8_level_41_ok F hX hp h K
theorem fX8_level_4_ok {w : Wd} {l : Launch} {G : Cx} {d m dd : Dt} {o v1 v2 : Int} {d' : Dt} {x : Dt} (F : Fx w G cX8_level RX8 5 none { frames := 3, cells := 0, slots := 0, locals := 77 }) (hX : WF dd m) (hp : PB m o 8) (h : fX8_level_4 d o v1 v2 = some x) (K : (fun q => q = d') x) : V w l WF G (QM w G WF none d' m 0 0) d m 0 0 4 [mA o, mI v1, mI v2, mU, mU] [] := by
  unfold fX8_level_4 at h
  exact loop_ok (P := fX8_level_4P w l G (QM w G WF none d' m 0 0) m d o) (fun s x hx h1 h2 => fX8_level_4f_ok F hX hp hx (by
    cases x with
    | inl s' => exact h1 s' rfl
    | inr z => cases h2 z rfl; exact K)) h
theorem vm_X8_level {w : Wd} {l : Launch} {d m : Dt} {o : Int} {d' : Dt} (hp : PB m o 8) (h : fX8_level d o = some d') : VM w l WF yX8_level cX8_level 5 none 3 77 0 0 d m [mA o] none d' m := by
  obtain ⟨x, h, K⟩ : ∃ x, fX8_level d o = some x ∧ x = d' := ⟨_, h, rfl⟩
  refine VM.of (L := [mA o, mU, mU, mU, mU]) (by decide +kernel) rfl (Nat.le_of_ble_eq_true rfl) fun G F _ => v_fact fun _ hX _ _ => ?_
  unfold fX8_level at h
  refine v_iconst F dX8_level_0 ⟨by decide, by decide⟩ ?_
  refine v_istore_n F dX8_level_1 rfl (Nat.le_of_ble_eq_true rfl) (L' := [mA o, mI 0, mU, mU, mU]) rfl ?_
  refine v_iconst F dX8_level_2 ⟨by decide, by decide⟩ ?_
  refine v_istore_n F dX8_level_3 rfl (Nat.le_of_ble_eq_true rfl) (L' := [mA o, mI 0, mI 0, mU, mU]) rfl ?_
  exact fX8_level_4_ok F hX hp h K
theorem vm_X8_isIn {w : Wd} {l : Launch} {d m : Dt} {o a1 : Int} {r : Int} (hp : PB m o 8) (h : fX8_isIn d o a1 = some r) : VM w l WF yX8_isIn cX8_isIn 2 (some .boolean) 0 0 0 0 d m [mA o, mI a1] (some (mI r)) d m := by
  obtain ⟨x, h, K⟩ : ∃ x, fX8_isIn d o a1 = some x ∧ x = r := ⟨_, h, rfl⟩
  refine VM.of (L := [mA o, mI a1]) (by decide +kernel) rfl (Nat.le_of_ble_eq_true rfl) fun G F _ => v_fact fun _ hX _ _ => ?_
  unfold fX8_isIn at h
  refine v_aload_n F dX8_isIn_0 rfl rfl ?_
  refine gf_X8_9 F dX8_isIn_1 hp (v := (o + 1)) rfl ?_
  refine v_iload_n F dX8_isIn_4 rfl rfl ?_
  obtain ⟨hi1, h⟩ := ck_some h
  refine v_zald F dX8_isIn_5 (ar_X8_4 hX hp) hi1 ?_
  refine v_if_eq F dX8_isIn_6 rfl (fun hq2 => ?_) (fun hq2 => ?_)
  · rw [if_pos hq2] at h
    refine v_iconst F dX8_isIn_31 ⟨by decide, by decide⟩ ?_
    cases h
    cases (show _ = r from K)
    exact v_zret F (Or.inl rfl) dX8_isIn_32
  · rw [if_neg hq2] at h
    refine v_aload_n F dX8_isIn_9 rfl rfl ?_
    refine gf_X8_51 F dX8_isIn_10 hp (v := (o + 171)) rfl ?_
    refine v_iload_n F dX8_isIn_13 rfl rfl ?_
    refine v_zald F dX8_isIn_14 (ar_X8_20 hX hp) hi1 ?_
    refine v_if_ne F dX8_isIn_15 rfl (fun hq3 => ?_) (fun hq3 => ?_)
    · rw [if_neg hq3] at h
      refine v_iconst F dX8_isIn_31 ⟨by decide, by decide⟩ ?_
      cases h
      cases (show _ = r from K)
      exact v_zret F (Or.inl rfl) dX8_isIn_32
    · rw [if_pos hq3] at h
      refine v_aload_n F dX8_isIn_18 rfl rfl ?_
      refine gf_X8_54 F dX8_isIn_19 hp (v := (o + 172)) rfl ?_
      refine v_iload_n F dX8_isIn_22 rfl rfl ?_
      refine v_zald F dX8_isIn_23 (ar_X8_21 hX hp) hi1 ?_
      refine v_if_ne F dX8_isIn_24 rfl (fun hq4 => ?_) (fun hq4 => ?_)
      · rw [if_neg hq4] at h
        refine v_iconst F dX8_isIn_31 ⟨by decide, by decide⟩ ?_
        cases h
        cases (show _ = r from K)
        exact v_zret F (Or.inl rfl) dX8_isIn_32
      · rw [if_pos hq4] at h
        refine v_iconst F dX8_isIn_27 ⟨by decide, by decide⟩ ?_
        refine v_goto F dX8_isIn_28 rfl ?_
        cases h
        cases (show _ = r from K)
        exact v_zret F (Or.inr rfl) dX8_isIn_32
def fX8_nextOf_4P (w : Wd) (l : Launch) (G : Cx) (Q : State → Prop) (m : Dt) (d : Dt) (o a1 : Int) (s : Int × Int) : Prop := V w l WF G Q d m 0 0 4 [mA o, mI a1, mI (s.1), mI (s.2), mU, mU] []
theorem fX8_nextOf_89_ok {w : Wd} {l : Launch} {G : Cx} {d m dd : Dt} {o a1 v2 v3 v4 s0 : Int} {r : Int} {x : ((Int × Int) ⊕ Int)} (F : Fx w G cX8_nextOf RX8 6 (some .int) { frames := 1, cells := 0, slots := 0, locals := 22 }) (hX : WF dd m) (hp : PB m o 8) (h : fX8_nextOf_89 d o a1 v2 v3 v4 s0 = some x) (K : (Sum.elim (fX8_nextOf_4P w l G (QM w G WF (some (mI r)) d m 0 0) m d o a1) (fun q => q = r)) x) : V w l WF G (QM w G WF (some (mI r)) d m 0 0) d m 0 0 89 [mA o, mI a1, mI v2, mI v3, mI v4, mU] [mI s0] := by
  unfold fX8_nextOf_89 at h
  refine v_istore F dX8_nextOf_89 (Nat.le_of_ble_eq_true rfl) (L' := [mA o, mI a1, mI v2, mI v3, mI v4, mI s0]) rfl ?_
  refine v_iload F dX8_nextOf_91 rfl ?_
  refine v_if_eq F dX8_nextOf_93 rfl (fun hq9 => ?_) (fun hq9 => ?_)
  · rw [if_pos hq9] at h
    obtain ⟨x10, ex10, h⟩ := lv_some h
    refine v_iincN F dX8_nextOf_131 (Nat.le_of_ble_eq_true rfl) rfl ex10 (L' := [mA o, mI a1, mI v2, mI x10, mI v4, mI s0]) rfl ?_
    refine v_goto F dX8_nextOf_134 rfl ?_
    cases h
    refine v_fgt (L' := [mA o, mI a1, mI v2, mI x10, mU, mU]) ⟨Or.inl rfl, Or.inl rfl, Or.inl rfl, Or.inl rfl, Or.inr rfl, Or.inr rfl, trivial⟩ ?_
    exact K
  · rw [if_neg hq9] at h
    refine v_iload_n F dX8_nextOf_96 rfl rfl ?_
    refine v_iconst F dX8_nextOf_97 ⟨by decide, by decide⟩ ?_
    refine v_icmp_eq F dX8_nextOf_98 rfl (fun hq11 => ?_) (fun hq11 => ?_)
    · rw [if_pos hq11] at h
      refine v_iload F dX8_nextOf_128 rfl ?_
      refine v_istore_n F dX8_nextOf_130 rfl (Nat.le_of_ble_eq_true rfl) (L' := [mA o, mI a1, mI v4, mI v3, mI v4, mI s0]) rfl ?_
      obtain ⟨x12, ex12, h⟩ := lv_some h
      refine v_iincN F dX8_nextOf_131 (Nat.le_of_ble_eq_true rfl) rfl ex12 (L' := [mA o, mI a1, mI v4, mI x12, mI v4, mI s0]) rfl ?_
      refine v_goto F dX8_nextOf_134 rfl ?_
      cases h
      refine v_fgt (L' := [mA o, mI a1, mI v4, mI x12, mU, mU]) ⟨Or.inl rfl, Or.inl rfl, Or.inl rfl, Or.inl rfl, Or.inr rfl, Or.inr rfl, trivial⟩ ?_
      exact K
    · rw [if_neg hq11] at h
      refine v_aload_n F dX8_nextOf_101 rfl rfl ?_
      obtain ⟨x13, ex13, h⟩ := lv_some h
      obtain ⟨hn15, h⟩ := ck_some h
      refine gf_X8_131 F dX8_nextOf_102 hp ex13 fun hr14 => ?_
      have x13p := hr14.resolve_left hn15
      refine gf_X8_465 F dX8_nextOf_105 x13p ?_
      refine v_if_eq F dX8_nextOf_108 rfl (fun hq16 => ?_) (fun hq16 => ?_)
      · rw [if_pos hq16] at h
        obtain ⟨x17, ex17, h⟩ := lv_some h
        refine v_iincN F dX8_nextOf_131 (Nat.le_of_ble_eq_true rfl) rfl ex17 (L' := [mA o, mI a1, mI v2, mI x17, mI v4, mI s0]) rfl ?_
        refine v_goto F dX8_nextOf_134 rfl ?_
        cases h
        refine v_fgt (L' := [mA o, mI a1, mI v2, mI x17, mU, mU]) ⟨Or.inl rfl, Or.inl rfl, Or.inl rfl, Or.inl rfl, Or.inr rfl, Or.inr rfl, trivial⟩ ?_
        exact K
      · rw [if_neg hq16] at h
        refine v_aload_n F dX8_nextOf_111 rfl rfl ?_
        refine gf_X8_33 F dX8_nextOf_112 hp (v := (o + 126)) rfl ?_
        refine v_iload F dX8_nextOf_115 rfl ?_
        obtain ⟨hi18, h⟩ := ck_some h
        refine v_lald F dX8_nextOf_117 (ar_X8_13 hX hp) hi18 ?_
        refine v_aload_n F dX8_nextOf_118 rfl rfl ?_
        refine gf_X8_33 F dX8_nextOf_119 hp (v := (o + 126)) rfl ?_
        refine v_iload_n F dX8_nextOf_122 rfl rfl ?_
        obtain ⟨hi19, h⟩ := ck_some h
        refine v_lald F dX8_nextOf_123 (ar_X8_13 hX hp) hi19 ?_
        refine v_lcmp F dX8_nextOf_124 ?_
        refine v_if_le F dX8_nextOf_125 rfl (fun hq20 => ?_) (fun hq20 => ?_)
        · rw [if_pos hq20] at h
          obtain ⟨x21, ex21, h⟩ := lv_some h
          refine v_iincN F dX8_nextOf_131 (Nat.le_of_ble_eq_true rfl) rfl ex21 (L' := [mA o, mI a1, mI v2, mI x21, mI v4, mI s0]) rfl ?_
          refine v_goto F dX8_nextOf_134 rfl ?_
          cases h
          refine v_fgt (L' := [mA o, mI a1, mI v2, mI x21, mU, mU]) ⟨Or.inl rfl, Or.inl rfl, Or.inl rfl, Or.inl rfl, Or.inr rfl, Or.inr rfl, trivial⟩ ?_
          exact K
        · rw [if_neg hq20] at h
          refine v_iload F dX8_nextOf_128 rfl ?_
          refine v_istore_n F dX8_nextOf_130 rfl (Nat.le_of_ble_eq_true rfl) (L' := [mA o, mI a1, mI v4, mI v3, mI v4, mI s0]) rfl ?_
          obtain ⟨x22, ex22, h⟩ := lv_some h
          refine v_iincN F dX8_nextOf_131 (Nat.le_of_ble_eq_true rfl) rfl ex22 (L' := [mA o, mI a1, mI v4, mI x22, mI v4, mI s0]) rfl ?_
          refine v_goto F dX8_nextOf_134 rfl ?_
          cases h
          refine v_fgt (L' := [mA o, mI a1, mI v4, mI x22, mU, mU]) ⟨Or.inl rfl, Or.inl rfl, Or.inl rfl, Or.inl rfl, Or.inr rfl, Or.inr rfl, trivial⟩ ?_
          exact K
theorem fX8_nextOf_35_ok {w : Wd} {l : Launch} {G : Cx} {d m dd : Dt} {o a1 v2 v3 s0 : Int} {r : Int} {x : ((Int × Int) ⊕ Int)} (F : Fx w G cX8_nextOf RX8 6 (some .int) { frames := 1, cells := 0, slots := 0, locals := 22 }) (hX : WF dd m) (hp : PB m o 8) (h : fX8_nextOf_35 d o a1 v2 v3 s0 = some x) (K : (Sum.elim (fX8_nextOf_4P w l G (QM w G WF (some (mI r)) d m 0 0) m d o a1) (fun q => q = r)) x) : V w l WF G (QM w G WF (some (mI r)) d m 0 0) d m 0 0 35 [mA o, mI a1, mI v2, mI v3, mU, mU] [mI s0] := by
  unfold fX8_nextOf_35 at h
  refine v_istore F dX8_nextOf_35 (Nat.le_of_ble_eq_true rfl) (L' := [mA o, mI a1, mI v2, mI v3, mI s0, mU]) rfl ?_
  refine v_aload_n F dX8_nextOf_37 rfl rfl ?_
  refine v_iload F dX8_nextOf_38 rfl ?_
  obtain ⟨x6, hc7, h⟩ := b1_some h
  refine v_callVv (c := 8) F dX8_nextOf_40 cv_X8_209 rfl (PB.ob hp hX (Nat.le_of_ble_eq_true rfl)) (Nat.le_of_ble_eq_true rfl) rfl (vm_X8_isIn hp hc7) rfl (rOk.of rfl) ?_
  refine v_if_eq F dX8_nextOf_43 rfl (fun hq8 => ?_) (fun hq8 => ?_)
  · rw [if_pos hq8] at h
    refine v_iconst F dX8_nextOf_88 ⟨by decide, by decide⟩ ?_
    exact fX8_nextOf_89_ok F hX hp h K
  · rw [if_neg hq8] at h
    refine v_aload_n F dX8_nextOf_46 rfl rfl ?_
    refine v_iload F dX8_nextOf_47 rfl ?_
    obtain ⟨x23, hc24, h⟩ := b1_some h
    refine v_callVv (c := 8) F dX8_nextOf_49 cv_X8_195 rfl (PB.ob hp hX (Nat.le_of_ble_eq_true rfl)) (Nat.le_of_ble_eq_true rfl) rfl (vm_X8_listOf hp hc24) rfl (rOk.of rfl) ?_
    refine v_iload_n F dX8_nextOf_52 rfl rfl ?_
    refine v_icmp_ne F dX8_nextOf_53 rfl (fun hq25 => ?_) (fun hq25 => ?_)
    · rw [if_neg hq25] at h
      refine v_iconst F dX8_nextOf_88 ⟨by decide, by decide⟩ ?_
      exact fX8_nextOf_89_ok F hX hp h K
    · rw [if_pos hq25] at h
      refine v_aload_n F dX8_nextOf_56 rfl rfl ?_
      obtain ⟨x26, ex26, h⟩ := lv_some h
      obtain ⟨hn28, h⟩ := ck_some h
      refine gf_X8_131 F dX8_nextOf_57 hp ex26 fun hr27 => ?_
      have x26p := hr27.resolve_left hn28
      refine gf_X8_469 F dX8_nextOf_60 x26p ?_
      refine v_if_eq F dX8_nextOf_63 rfl (fun hq29 => ?_) (fun hq29 => ?_)
      · rw [if_pos hq29] at h
        refine v_iconst F dX8_nextOf_84 ⟨by decide, by decide⟩ ?_
        refine v_goto F dX8_nextOf_85 rfl ?_
        exact fX8_nextOf_89_ok F hX hp h K
      · rw [if_neg hq29] at h
        refine v_aload_n F dX8_nextOf_66 rfl rfl ?_
        refine gf_X8_125 F dX8_nextOf_67 hp (v := (o + 240)) rfl ?_
        refine v_aload_n F dX8_nextOf_70 rfl rfl ?_
        obtain ⟨x30, ex30, h⟩ := lv_some h
        obtain ⟨hn32, h⟩ := ck_some h
        refine gf_X8_135 F dX8_nextOf_71 hp ex30 fun hr31 => ?_
        have x30p := hr31.resolve_left hn32
        refine gf_X8_472 F dX8_nextOf_74 x30p (v := (x30 + 2)) rfl ?_
        refine v_iload F dX8_nextOf_77 rfl ?_
        obtain ⟨hi33, h⟩ := ck_some h
        refine v_iald F dX8_nextOf_79 (ar_X9_2 hX x30p) hi33 ?_
        obtain ⟨x34, ex34, h⟩ := lv_some h
        refine v_nI ex34 ?_
        obtain ⟨hi35, h⟩ := ck_some h
        refine v_zald F dX8_nextOf_80 (ar_X8_52 hX hp) hi35 ?_
        refine v_if_ne F dX8_nextOf_81 rfl (fun hq36 => ?_) (fun hq36 => ?_)
        · rw [if_neg hq36] at h
          refine v_iconst F dX8_nextOf_88 ⟨by decide, by decide⟩ ?_
          exact fX8_nextOf_89_ok F hX hp h K
        · rw [if_pos hq36] at h
          refine v_iconst F dX8_nextOf_84 ⟨by decide, by decide⟩ ?_
          refine v_goto F dX8_nextOf_85 rfl ?_
          exact fX8_nextOf_89_ok F hX hp h K
theorem fX8_nextOf_4f_ok {w : Wd} {l : Launch} {G : Cx} {d m dd : Dt} {o a1 : Int} {r : Int} {s : Int × Int} {x : ((Int × Int) ⊕ Int)} (F : Fx w G cX8_nextOf RX8 6 (some .int) { frames := 1, cells := 0, slots := 0, locals := 22 }) (hX : WF dd m) (hp : PB m o 8) (h : fX8_nextOf_4f d o a1 s = some x) (K : (Sum.elim (fX8_nextOf_4P w l G (QM w G WF (some (mI r)) d m 0 0) m d o a1) (fun q => q = r)) x) : V w l WF G (QM w G WF (some (mI r)) d m 0 0) d m 0 0 4 [mA o, mI a1, mI (s.1), mI (s.2), mU, mU] [] := by
  obtain ⟨v2, v3⟩ := s
  unfold fX8_nextOf_4f at h
  dsimp only at h
  refine v_iload_n F dX8_nextOf_4 rfl rfl ?_
  refine v_aload_n F dX8_nextOf_5 rfl rfl ?_
  refine gf_X8_148 F dX8_nextOf_6 hp ?_
  refine v_icmp_ge F dX8_nextOf_9 rfl (fun hq1 => ?_) (fun hq1 => ?_)
  · rw [if_pos hq1] at h
    obtain ⟨z, hu, ez⟩ := up_some h
    clear h
    subst ez
    have h := hu
    clear hu
    refine v_iload_n F dX8_nextOf_137 rfl rfl ?_
    cases h
    cases (show _ = r from K)
    exact v_iret F dX8_nextOf_138
  · rw [if_neg hq1] at h
    refine v_aload_n F dX8_nextOf_12 rfl rfl ?_
    obtain ⟨x2, ex2, h⟩ := lv_some h
    obtain ⟨hn4, h⟩ := ck_some h
    refine gf_X8_131 F dX8_nextOf_13 hp ex2 fun hr3 => ?_
    have x2p := hr3.resolve_left hn4
    refine gf_X8_465 F dX8_nextOf_16 x2p ?_
    refine v_if_eq F dX8_nextOf_19 rfl (fun hq5 => ?_) (fun hq5 => ?_)
    · rw [if_pos hq5] at h
      refine v_iload_n F dX8_nextOf_34 rfl rfl ?_
      exact fX8_nextOf_35_ok F hX hp h K
    · rw [if_neg hq5] at h
      refine v_aload_n F dX8_nextOf_22 rfl rfl ?_
      obtain ⟨x37, ex37, h⟩ := lv_some h
      obtain ⟨hn39, h⟩ := ck_some h
      refine gf_X8_135 F dX8_nextOf_23 hp ex37 fun hr38 => ?_
      have x37p := hr38.resolve_left hn39
      refine gf_X8_212 F dX8_nextOf_26 x37p (v := (x37 + 6)) rfl ?_
      refine v_iload_n F dX8_nextOf_29 rfl rfl ?_
      obtain ⟨hi40, h⟩ := ck_some h
      refine v_iald F dX8_nextOf_30 (ar_X9_7 hX x37p) hi40 ?_
      refine v_goto F dX8_nextOf_31 rfl ?_
      exact fX8_nextOf_35_ok F hX hp h K
theorem fX8_nextOf_4_ok {w : Wd} {l : Launch} {G : Cx} {d m dd : Dt} {o a1 v2 v3 : Int} {r : Int} {x : Int} (F : Fx w G cX8_nextOf RX8 6 (some .int) { frames := 1, cells := 0, slots := 0, locals := 22 }) (hX : WF dd m) (hp : PB m o 8) (h : fX8_nextOf_4 d o a1 v2 v3 = some x) (K : (fun q => q = r) x) : V w l WF G (QM w G WF (some (mI r)) d m 0 0) d m 0 0 4 [mA o, mI a1, mI v2, mI v3, mU, mU] [] := by
  unfold fX8_nextOf_4 at h
  exact loop_ok (P := fX8_nextOf_4P w l G (QM w G WF (some (mI r)) d m 0 0) m d o a1) (fun s x hx h1 h2 => fX8_nextOf_4f_ok F hX hp hx (by
    cases x with
    | inl s' => exact h1 s' rfl
    | inr z => cases h2 z rfl; exact K)) h
theorem vm_X8_nextOf {w : Wd} {l : Launch} {d m : Dt} {o a1 : Int} {r : Int} (hp : PB m o 8) (h : fX8_nextOf d o a1 = some r) : VM w l WF yX8_nextOf cX8_nextOf 6 (some .int) 1 22 0 0 d m [mA o, mI a1] (some (mI r)) d m := by
  obtain ⟨x, h, K⟩ : ∃ x, fX8_nextOf d o a1 = some x ∧ x = r := ⟨_, h, rfl⟩
  refine VM.of (L := [mA o, mI a1, mU, mU, mU, mU]) (by decide +kernel) rfl (Nat.le_of_ble_eq_true rfl) fun G F _ => v_fact fun _ hX _ _ => ?_
  unfold fX8_nextOf at h
  refine v_iconst F dX8_nextOf_0 ⟨by decide, by decide⟩ ?_
  refine v_istore_n F dX8_nextOf_1 rfl (Nat.le_of_ble_eq_true rfl) (L' := [mA o, mI a1, mI (-1), mU, mU, mU]) rfl ?_
  refine v_iconst F dX8_nextOf_2 ⟨by decide, by decide⟩ ?_
  refine v_istore_n F dX8_nextOf_3 rfl (Nat.le_of_ble_eq_true rfl) (L' := [mA o, mI a1, mI (-1), mI 0, mU, mU]) rfl ?_
  exact fX8_nextOf_4_ok F hX hp h K
theorem vm_X8_elect {w : Wd} {l : Launch} {d m : Dt} {o a1 : Int} {d' : Dt} (hp : PB m o 8) (h : fX8_elect d o a1 = some d') : VM w l WF yX8_elect cX8_elect 2 none 0 0 0 0 d m [mA o, mI a1] none d' m := by
  obtain ⟨x, h, K⟩ : ∃ x, fX8_elect d o a1 = some x ∧ x = d' := ⟨_, h, rfl⟩
  refine VM.of (L := [mA o, mI a1]) (by decide +kernel) rfl (Nat.le_of_ble_eq_true rfl) fun G F _ => v_fact fun _ hX _ _ => ?_
  unfold fX8_elect at h
  refine v_aload_n F dX8_elect_0 rfl rfl ?_
  refine gf_X8_48 F dX8_elect_1 hp (v := (o + 170)) rfl ?_
  refine v_aload_n F dX8_elect_4 rfl rfl ?_
  refine gf_X8_167 F dX8_elect_5 hp ?_
  refine v_iload_n F dX8_elect_8 rfl rfl ?_
  obtain ⟨x1, ex1, h⟩ := lv_some h
  refine v_n2 ex1 ?_
  obtain ⟨hi2, h⟩ := ck_some h
  obtain ⟨d3, ed3, h⟩ := sd_some h
  refine v_iast F dX8_elect_9 (ar_X8_18 hX hp) hi2 ?_
  refine v_nD ed3 ?_
  refine v_aload_n F dX8_elect_10 rfl rfl ?_
  refine v_dup_A F dX8_elect_11 ?_
  refine gf_X8_167 F dX8_elect_12 hp ?_
  refine v_iconst F dX8_elect_15 ⟨by decide, by decide⟩ ?_
  refine v_iadd F dX8_elect_16 ?_
  obtain ⟨d4, ed4, h⟩ := sd_some h
  refine pf_X8_167 F dX8_elect_17 hp ?_
  refine v_nD ed4 ?_
  refine v_aload_n F dX8_elect_20 rfl rfl ?_
  refine gf_X8_51 F dX8_elect_21 hp (v := (o + 171)) rfl ?_
  refine v_iload_n F dX8_elect_24 rfl rfl ?_
  refine v_iconst F dX8_elect_25 ⟨by decide, by decide⟩ ?_
  obtain ⟨hi5, h⟩ := ck_some h
  obtain ⟨d6, ed6, h⟩ := sd_some h
  refine v_zast F dX8_elect_26 (ar_X8_20 hX hp) hi5 ?_
  refine v_nD ed6 ?_
  cases h
  cases (show _ = d' from K)
  exact v_vret F dX8_elect_27
def fX8_fill_2P (w : Wd) (l : Launch) (G : Cx) (Q : State → Prop) (m : Dt) (o : Int) (s : Dt × Int) : Prop := V w l WF G Q s.1 m 0 0 2 [mA o, mI (s.2), mU, mU, mU, mU] []
def fX8_fill_14P (w : Wd) (l : Launch) (G : Cx) (Q : State → Prop) (m : Dt) (d : Dt) (o v1 : Int) (s : Int × Int) : Prop := V w l WF G Q d m 0 0 14 [mA o, mI v1, mI (s.1), mI (s.2), mU, mU] []
def fX8_fill_109P (w : Wd) (l : Launch) (G : Cx) (Q : State → Prop) (m : Dt) (o v1 v2 v3 : Int) (s : Dt × Int) : Prop := V w l WF G Q s.1 m 0 0 109 [mA o, mI v1, mI v2, mI v3, mI (s.2), mU] []
theorem fX8_fill_109f_ok {w : Wd} {l : Launch} {G : Cx} {m dd : Dt} {o v1 v2 v3 : Int} {d' : Dt} {s : Dt × Int} {x : ((Dt × Int) ⊕ ((Dt × Int) ⊕ Dt))} (F : Fx w G cX8_fill RX8 6 none { frames := 2, cells := 0, slots := 0, locals := 47 }) (hX : WF dd m) (hp : PB m o 8) (h : fX8_fill_109f o v1 v2 v3 s = some x) (K : (Sum.elim (fX8_fill_109P w l G (QM w G WF none d' m 0 0) m o v1 v2 v3) (Sum.elim (fX8_fill_2P w l G (QM w G WF none d' m 0 0) m o) (fun q => q = d'))) x) : V w l WF G (QM w G WF none d' m 0 0) s.1 m 0 0 109 [mA o, mI v1, mI v2, mI v3, mI (s.2), mU] [] := by
  obtain ⟨d, v4⟩ := s
  unfold fX8_fill_109f at h
  dsimp only at h
  refine v_iload F dX8_fill_109 rfl ?_
  refine v_iconst F dX8_fill_111 ⟨by decide, by decide⟩ ?_
  refine v_icmp_eq F dX8_fill_112 rfl (fun hq7 => ?_) (fun hq7 => ?_)
  · rw [if_pos hq7] at h
    obtain ⟨z, hu, ez⟩ := up_some h
    clear h
    subst ez
    have h := hu
    clear hu
    refine v_aload_n F dX8_fill_154 rfl rfl ?_
    refine gf_X8_101 F dX8_fill_155 hp (v := (o + 232)) rfl ?_
    refine v_iload_n F dX8_fill_158 rfl rfl ?_
    refine v_iconst F dX8_fill_159 ⟨by decide, by decide⟩ ?_
    obtain ⟨hi8, h⟩ := ck_some h
    obtain ⟨d9, ed9, h⟩ := sd_some h
    refine v_iast F dX8_fill_160 (ar_X8_41 hX hp) hi8 ?_
    refine v_nD ed9 ?_
    obtain ⟨x10, ex10, h⟩ := lv_some h
    refine v_iincN F dX8_fill_161 (Nat.le_of_ble_eq_true rfl) rfl ex10 (L' := [mA o, mI x10, mI v2, mI v3, mI v4, mU]) rfl ?_
    refine v_goto F dX8_fill_164 rfl ?_
    cases h
    refine v_fgt (L' := [mA o, mI x10, mU, mU, mU, mU]) ⟨Or.inl rfl, Or.inl rfl, Or.inr rfl, Or.inr rfl, Or.inr rfl, Or.inl rfl, trivial⟩ ?_
    exact K
  · rw [if_neg hq7] at h
    refine v_aload_n F dX8_fill_115 rfl rfl ?_
    refine v_iload F dX8_fill_116 rfl ?_
    obtain ⟨d11, hc12, h⟩ := bd_some h
    refine v_callV0 (c := 8) F dX8_fill_118 cv_X8_219 rfl (PB.ob hp hX (Nat.le_of_ble_eq_true rfl)) (Nat.le_of_ble_eq_true rfl) rfl (vm_X8_elect hp hc12) rfl (rOk.of rfl) ?_
    refine v_aload_n F dX8_fill_121 rfl rfl ?_
    refine gf_X8_113 F dX8_fill_122 hp (v := (o + 236)) rfl ?_
    refine v_iload_n F dX8_fill_125 rfl rfl ?_
    refine v_dup2_IA F dX8_fill_126 ?_
    obtain ⟨hi13, h⟩ := ck_some h
    refine v_iald F dX8_fill_127 (ar_X8_46 hX hp) hi13 ?_
    refine v_iconst F dX8_fill_128 ⟨by decide, by decide⟩ ?_
    refine v_isub F dX8_fill_129 ?_
    obtain ⟨d14, ed14, h⟩ := sd_some h
    refine v_iast F dX8_fill_130 (ar_X8_46 hX hp) hi13 ?_
    refine v_nD ed14 ?_
    refine v_aload_n F dX8_fill_131 rfl rfl ?_
    refine gf_X8_113 F dX8_fill_132 hp (v := (o + 236)) rfl ?_
    refine v_iload_n F dX8_fill_135 rfl rfl ?_
    refine v_iald F dX8_fill_136 (ar_X8_46 hX hp) hi13 ?_
    refine v_if_le F dX8_fill_137 rfl (fun hq15 => ?_) (fun hq15 => ?_)
    · rw [if_pos hq15] at h
      refine v_iconst F dX8_fill_148 ⟨by decide, by decide⟩ ?_
      refine v_istore F dX8_fill_149 (Nat.le_of_ble_eq_true rfl) (L' := [mA o, mI v1, mI v2, mI v3, mI (-1), mU]) rfl ?_
      refine v_goto F dX8_fill_151 rfl ?_
      cases h
      exact K
    · rw [if_neg hq15] at h
      refine v_aload_n F dX8_fill_140 rfl rfl ?_
      refine v_iload_n F dX8_fill_141 rfl rfl ?_
      obtain ⟨x16, hc17, h⟩ := b1_some h
      refine v_callVv (c := 8) F dX8_fill_142 cv_X8_475 rfl (PB.ob hp hX (Nat.le_of_ble_eq_true rfl)) (Nat.le_of_ble_eq_true rfl) rfl (vm_X8_nextOf hp hc17) rfl (rOk.of rfl) ?_
      refine v_goto F dX8_fill_145 rfl ?_
      refine v_istore F dX8_fill_149 (Nat.le_of_ble_eq_true rfl) (L' := [mA o, mI v1, mI v2, mI v3, mI x16, mU]) rfl ?_
      refine v_goto F dX8_fill_151 rfl ?_
      cases h
      exact K
theorem fX8_fill_109_ok {w : Wd} {l : Launch} {G : Cx} {d m dd : Dt} {o v1 v2 v3 v4 : Int} {d' : Dt} {x : ((Dt × Int) ⊕ Dt)} (F : Fx w G cX8_fill RX8 6 none { frames := 2, cells := 0, slots := 0, locals := 47 }) (hX : WF dd m) (hp : PB m o 8) (h : fX8_fill_109 d o v1 v2 v3 v4 = some x) (K : (Sum.elim (fX8_fill_2P w l G (QM w G WF none d' m 0 0) m o) (fun q => q = d')) x) : V w l WF G (QM w G WF none d' m 0 0) d m 0 0 109 [mA o, mI v1, mI v2, mI v3, mI v4, mU] [] := by
  unfold fX8_fill_109 at h
  exact loop_ok (P := fX8_fill_109P w l G (QM w G WF none d' m 0 0) m o v1 v2 v3) (fun s x hx h1 h2 => fX8_fill_109f_ok F hX hp hx (by
    cases x with
    | inl s' => exact h1 s' rfl
    | inr z => cases h2 z rfl; exact K)) h
theorem fX8_fill_41_ok {w : Wd} {l : Launch} {G : Cx} {d m dd : Dt} {o v1 v2 v3 v4 s0 : Int} {d' : Dt} {x : ((Int × Int) ⊕ ((Dt × Int) ⊕ Dt))} (F : Fx w G cX8_fill RX8 6 none { frames := 2, cells := 0, slots := 0, locals := 47 }) (hX : WF dd m) (hp : PB m o 8) (h : fX8_fill_41 d o v1 v2 v3 v4 s0 = some x) (K : (Sum.elim (fX8_fill_14P w l G (QM w G WF none d' m 0 0) m d o v1) (Sum.elim (fX8_fill_2P w l G (QM w G WF none d' m 0 0) m o) (fun q => q = d'))) x) : V w l WF G (QM w G WF none d' m 0 0) d m 0 0 41 [mA o, mI v1, mI v2, mI v3, mI v4, mU] [mI s0] := by
  unfold fX8_fill_41 at h
  refine v_istore F dX8_fill_41 (Nat.le_of_ble_eq_true rfl) (L' := [mA o, mI v1, mI v2, mI v3, mI v4, mI s0]) rfl ?_
  refine v_iload F dX8_fill_43 rfl ?_
  refine v_if_eq F dX8_fill_45 rfl (fun hq23 => ?_) (fun hq23 => ?_)
  · rw [if_pos hq23] at h
    obtain ⟨x24, ex24, h⟩ := lv_some h
    refine v_iincN F dX8_fill_76 (Nat.le_of_ble_eq_true rfl) rfl ex24 (L' := [mA o, mI v1, mI v2, mI x24, mI v4, mI s0]) rfl ?_
    refine v_goto F dX8_fill_79 rfl ?_
    cases h
    refine v_fgt (L' := [mA o, mI v1, mI v2, mI x24, mU, mU]) ⟨Or.inl rfl, Or.inl rfl, Or.inl rfl, Or.inl rfl, Or.inr rfl, Or.inr rfl, trivial⟩ ?_
    exact K
  · rw [if_neg hq23] at h
    refine v_iload_n F dX8_fill_48 rfl rfl ?_
    refine v_iconst F dX8_fill_49 ⟨by decide, by decide⟩ ?_
    refine v_icmp_eq F dX8_fill_50 rfl (fun hq25 => ?_) (fun hq25 => ?_)
    · rw [if_pos hq25] at h
      refine v_iload_n F dX8_fill_74 rfl rfl ?_
      refine v_istore_n F dX8_fill_75 rfl (Nat.le_of_ble_eq_true rfl) (L' := [mA o, mI v1, mI v3, mI v3, mI v4, mI s0]) rfl ?_
      obtain ⟨x26, ex26, h⟩ := lv_some h
      refine v_iincN F dX8_fill_76 (Nat.le_of_ble_eq_true rfl) rfl ex26 (L' := [mA o, mI v1, mI v3, mI x26, mI v4, mI s0]) rfl ?_
      refine v_goto F dX8_fill_79 rfl ?_
      cases h
      refine v_fgt (L' := [mA o, mI v1, mI v3, mI x26, mU, mU]) ⟨Or.inl rfl, Or.inl rfl, Or.inl rfl, Or.inl rfl, Or.inr rfl, Or.inr rfl, trivial⟩ ?_
      exact K
    · rw [if_neg hq25] at h
      refine v_aload_n F dX8_fill_53 rfl rfl ?_
      refine gf_X8_104 F dX8_fill_54 hp (v := (o + 233)) rfl ?_
      refine v_iload F dX8_fill_57 rfl ?_
      obtain ⟨hi27, h⟩ := ck_some h
      refine v_iald F dX8_fill_59 (ar_X8_43 hX hp) hi27 ?_
      refine v_aload_n F dX8_fill_60 rfl rfl ?_
      refine gf_X8_104 F dX8_fill_61 hp (v := (o + 233)) rfl ?_
      refine v_aload_n F dX8_fill_64 rfl rfl ?_
      refine gf_X8_101 F dX8_fill_65 hp (v := (o + 232)) rfl ?_
      refine v_iload_n F dX8_fill_68 rfl rfl ?_
      obtain ⟨hi28, h⟩ := ck_some h
      refine v_iald F dX8_fill_69 (ar_X8_41 hX hp) hi28 ?_
      obtain ⟨x29, ex29, h⟩ := lv_some h
      refine v_nI ex29 ?_
      obtain ⟨hi30, h⟩ := ck_some h
      refine v_iald F dX8_fill_70 (ar_X8_43 hX hp) hi30 ?_
      refine v_icmp_le F dX8_fill_71 rfl (fun hq31 => ?_) (fun hq31 => ?_)
      · rw [if_pos hq31] at h
        obtain ⟨x32, ex32, h⟩ := lv_some h
        refine v_iincN F dX8_fill_76 (Nat.le_of_ble_eq_true rfl) rfl ex32 (L' := [mA o, mI v1, mI v2, mI x32, mI v4, mI s0]) rfl ?_
        refine v_goto F dX8_fill_79 rfl ?_
        cases h
        refine v_fgt (L' := [mA o, mI v1, mI v2, mI x32, mU, mU]) ⟨Or.inl rfl, Or.inl rfl, Or.inl rfl, Or.inl rfl, Or.inr rfl, Or.inr rfl, trivial⟩ ?_
        exact K
      · rw [if_neg hq31] at h
        refine v_iload_n F dX8_fill_74 rfl rfl ?_
        refine v_istore_n F dX8_fill_75 rfl (Nat.le_of_ble_eq_true rfl) (L' := [mA o, mI v1, mI v3, mI v3, mI v4, mI s0]) rfl ?_
        obtain ⟨x33, ex33, h⟩ := lv_some h
        refine v_iincN F dX8_fill_76 (Nat.le_of_ble_eq_true rfl) rfl ex33 (L' := [mA o, mI v1, mI v3, mI x33, mI v4, mI s0]) rfl ?_
        refine v_goto F dX8_fill_79 rfl ?_
        cases h
        refine v_fgt (L' := [mA o, mI v1, mI v3, mI x33, mU, mU]) ⟨Or.inl rfl, Or.inl rfl, Or.inl rfl, Or.inl rfl, Or.inr rfl, Or.inr rfl, trivial⟩ ?_
        exact K
theorem fX8_fill_14f_ok {w : Wd} {l : Launch} {G : Cx} {d m dd : Dt} {o v1 : Int} {d' : Dt} {s : Int × Int} {x : ((Int × Int) ⊕ ((Dt × Int) ⊕ Dt))} (F : Fx w G cX8_fill RX8 6 none { frames := 2, cells := 0, slots := 0, locals := 47 }) (hX : WF dd m) (hp : PB m o 8) (h : fX8_fill_14f d o v1 s = some x) (K : (Sum.elim (fX8_fill_14P w l G (QM w G WF none d' m 0 0) m d o v1) (Sum.elim (fX8_fill_2P w l G (QM w G WF none d' m 0 0) m o) (fun q => q = d'))) x) : V w l WF G (QM w G WF none d' m 0 0) d m 0 0 14 [mA o, mI v1, mI (s.1), mI (s.2), mU, mU] [] := by
  obtain ⟨v2, v3⟩ := s
  unfold fX8_fill_14f at h
  dsimp only at h
  refine v_iload_n F dX8_fill_14 rfl rfl ?_
  refine v_aload_n F dX8_fill_15 rfl rfl ?_
  refine gf_X8_416 F dX8_fill_16 hp ?_
  refine v_icmp_ge F dX8_fill_19 rfl (fun hq2 => ?_) (fun hq2 => ?_)
  · rw [if_pos hq2] at h
    obtain ⟨z, hu, ez⟩ := up_some h
    clear h
    subst ez
    have h := hu
    clear hu
    refine v_aload_n F dX8_fill_82 rfl rfl ?_
    refine gf_X8_101 F dX8_fill_83 hp (v := (o + 232)) rfl ?_
    refine v_iload_n F dX8_fill_86 rfl rfl ?_
    obtain ⟨hi3, h⟩ := ck_some h
    refine v_iald F dX8_fill_87 (ar_X8_41 hX hp) hi3 ?_
    obtain ⟨x4, ex4, h⟩ := lv_some h
    refine v_nI ex4 ?_
    refine v_istore_n F dX8_fill_88 rfl (Nat.le_of_ble_eq_true rfl) (L' := [mA o, mI v1, mI v2, mI x4, mU, mU]) rfl ?_
    refine v_aload_n F dX8_fill_89 rfl rfl ?_
    refine gf_X8_113 F dX8_fill_90 hp (v := (o + 236)) rfl ?_
    refine v_iload_n F dX8_fill_93 rfl rfl ?_
    obtain ⟨hi5, h⟩ := ck_some h
    refine v_iald F dX8_fill_94 (ar_X8_46 hX hp) hi5 ?_
    refine v_if_le F dX8_fill_95 rfl (fun hq6 => ?_) (fun hq6 => ?_)
    · rw [if_pos hq6] at h
      refine v_iconst F dX8_fill_106 ⟨by decide, by decide⟩ ?_
      refine v_istore F dX8_fill_107 (Nat.le_of_ble_eq_true rfl) (L' := [mA o, mI v1, mI v2, mI x4, mI (-1), mU]) rfl ?_
      exact fX8_fill_109_ok F hX hp h K
    · rw [if_neg hq6] at h
      refine v_aload_n F dX8_fill_98 rfl rfl ?_
      refine v_iload_n F dX8_fill_99 rfl rfl ?_
      obtain ⟨x18, hc19, h⟩ := b1_some h
      refine v_callVv (c := 8) F dX8_fill_100 cv_X8_475 rfl (PB.ob hp hX (Nat.le_of_ble_eq_true rfl)) (Nat.le_of_ble_eq_true rfl) rfl (vm_X8_nextOf hp hc19) rfl (rOk.of rfl) ?_
      refine v_goto F dX8_fill_103 rfl ?_
      refine v_istore F dX8_fill_107 (Nat.le_of_ble_eq_true rfl) (L' := [mA o, mI v1, mI v2, mI x4, mI x18, mU]) rfl ?_
      exact fX8_fill_109_ok F hX hp h K
  · rw [if_neg hq2] at h
    refine v_aload_n F dX8_fill_22 rfl rfl ?_
    refine gf_X8_101 F dX8_fill_23 hp (v := (o + 232)) rfl ?_
    refine v_iload_n F dX8_fill_26 rfl rfl ?_
    obtain ⟨hi20, h⟩ := ck_some h
    refine v_iald F dX8_fill_27 (ar_X8_41 hX hp) hi20 ?_
    obtain ⟨x21, ex21, h⟩ := lv_some h
    refine v_nI ex21 ?_
    refine v_istore F dX8_fill_28 (Nat.le_of_ble_eq_true rfl) (L' := [mA o, mI v1, mI v2, mI v3, mI x21, mU]) rfl ?_
    refine v_iload F dX8_fill_30 rfl ?_
    refine v_iconst F dX8_fill_32 ⟨by decide, by decide⟩ ?_
    refine v_icmp_eq F dX8_fill_33 rfl (fun hq22 => ?_) (fun hq22 => ?_)
    · rw [if_pos hq22] at h
      refine v_iconst F dX8_fill_40 ⟨by decide, by decide⟩ ?_
      exact fX8_fill_41_ok F hX hp h K
    · rw [if_neg hq22] at h
      refine v_iconst F dX8_fill_36 ⟨by decide, by decide⟩ ?_
      refine v_goto F dX8_fill_37 rfl ?_
      exact fX8_fill_41_ok F hX hp h K
theorem fX8_fill_14_ok {w : Wd} {l : Launch} {G : Cx} {d m dd : Dt} {o v1 v2 v3 : Int} {d' : Dt} {x : ((Dt × Int) ⊕ Dt)} (F : Fx w G cX8_fill RX8 6 none { frames := 2, cells := 0, slots := 0, locals := 47 }) (hX : WF dd m) (hp : PB m o 8) (h : fX8_fill_14 d o v1 v2 v3 = some x) (K : (Sum.elim (fX8_fill_2P w l G (QM w G WF none d' m 0 0) m o) (fun q => q = d')) x) : V w l WF G (QM w G WF none d' m 0 0) d m 0 0 14 [mA o, mI v1, mI v2, mI v3, mU, mU] [] := by
  unfold fX8_fill_14 at h
  exact loop_ok (P := fX8_fill_14P w l G (QM w G WF none d' m 0 0) m d o v1) (fun s x hx h1 h2 => fX8_fill_14f_ok F hX hp hx (by
    cases x with
    | inl s' => exact h1 s' rfl
    | inr z => cases h2 z rfl; exact K)) h
theorem fX8_fill_2f_ok {w : Wd} {l : Launch} {G : Cx} {m dd : Dt} {o : Int} {d' : Dt} {s : Dt × Int} {x : ((Dt × Int) ⊕ Dt)} (F : Fx w G cX8_fill RX8 6 none { frames := 2, cells := 0, slots := 0, locals := 47 }) (hX : WF dd m) (hp : PB m o 8) (h : fX8_fill_2f o s = some x) (K : (Sum.elim (fX8_fill_2P w l G (QM w G WF none d' m 0 0) m o) (fun q => q = d')) x) : V w l WF G (QM w G WF none d' m 0 0) s.1 m 0 0 2 [mA o, mI (s.2), mU, mU, mU, mU] [] := by
  obtain ⟨d, v1⟩ := s
  unfold fX8_fill_2f at h
  dsimp only at h
  refine v_iload_n F dX8_fill_2 rfl rfl ?_
  refine v_aload_n F dX8_fill_3 rfl rfl ?_
  refine gf_X8_416 F dX8_fill_4 hp ?_
  refine v_icmp_ge F dX8_fill_7 rfl (fun hq1 => ?_) (fun hq1 => ?_)
  · rw [if_pos hq1] at h
    obtain ⟨z, hu, ez⟩ := up_some h
    clear h
    subst ez
    have h := hu
    clear hu
    cases h
    cases (show _ = d' from K)
    exact v_vret F dX8_fill_167
  · rw [if_neg hq1] at h
    refine v_iconst F dX8_fill_10 ⟨by decide, by decide⟩ ?_
    refine v_istore_n F dX8_fill_11 rfl (Nat.le_of_ble_eq_true rfl) (L' := [mA o, mI v1, mI (-1), mU, mU, mU]) rfl ?_
    refine v_iconst F dX8_fill_12 ⟨by decide, by decide⟩ ?_
    refine v_istore_n F dX8_fill_13 rfl (Nat.le_of_ble_eq_true rfl) (L' := [mA o, mI v1, mI (-1), mI 0, mU, mU]) rfl ?_
    exact fX8_fill_14_ok F hX hp h K
theorem fX8_fill_2_ok {w : Wd} {l : Launch} {G : Cx} {d m dd : Dt} {o v1 : Int} {d' : Dt} {x : Dt} (F : Fx w G cX8_fill RX8 6 none { frames := 2, cells := 0, slots := 0, locals := 47 }) (hX : WF dd m) (hp : PB m o 8) (h : fX8_fill_2 d o v1 = some x) (K : (fun q => q = d') x) : V w l WF G (QM w G WF none d' m 0 0) d m 0 0 2 [mA o, mI v1, mU, mU, mU, mU] [] := by
  unfold fX8_fill_2 at h
  exact loop_ok (P := fX8_fill_2P w l G (QM w G WF none d' m 0 0) m o) (fun s x hx h1 h2 => fX8_fill_2f_ok F hX hp hx (by
    cases x with
    | inl s' => exact h1 s' rfl
    | inr z => cases h2 z rfl; exact K)) h
theorem vm_X8_fill {w : Wd} {l : Launch} {d m : Dt} {o : Int} {d' : Dt} (hp : PB m o 8) (h : fX8_fill d o = some d') : VM w l WF yX8_fill cX8_fill 6 none 2 47 0 0 d m [mA o] none d' m := by
  obtain ⟨x, h, K⟩ : ∃ x, fX8_fill d o = some x ∧ x = d' := ⟨_, h, rfl⟩
  refine VM.of (L := [mA o, mU, mU, mU, mU, mU]) (by decide +kernel) rfl (Nat.le_of_ble_eq_true rfl) fun G F _ => v_fact fun _ hX _ _ => ?_
  unfold fX8_fill at h
  refine v_iconst F dX8_fill_0 ⟨by decide, by decide⟩ ?_
  refine v_istore_n F dX8_fill_1 rfl (Nat.le_of_ble_eq_true rfl) (L' := [mA o, mI 0, mU, mU, mU, mU]) rfl ?_
  exact fX8_fill_2_ok F hX hp h K
def fX8_tellSeats_2P (w : Wd) (l : Launch) (G : Cx) (Q : State → Prop) (m : Dt) (o : Int) (s : Dt × Int) : Prop := V w l WF G Q s.1 m 0 0 2 [mA o, mI (s.2), mU] []
def fX8_tellSeats_19P (w : Wd) (l : Launch) (G : Cx) (Q : State → Prop) (m : Dt) (o v1 : Int) (s : Dt × Int) : Prop := V w l WF G Q s.1 m 0 0 19 [mA o, mI v1, mI (s.2)] []
theorem fX8_tellSeats_66_ok {w : Wd} {l : Launch} {G : Cx} {d m dd : Dt} {o v1 v2 s1 s2 s3 : Int} {d' : Dt} {x : ((Dt × Int) ⊕ ((Dt × Int) ⊕ Dt))} (F : Fx w G cX8_tellSeats RX8 3 none { frames := 1, cells := 0, slots := 0, locals := 22 }) (hX : WF dd m) (hp : PB m o 8) (h : fX8_tellSeats_66 d o v1 v2 s1 s2 s3 = some x) (K : (Sum.elim (fX8_tellSeats_19P w l G (QM w G WF none d' m 0 0) m o v1) (Sum.elim (fX8_tellSeats_2P w l G (QM w G WF none d' m 0 0) m o) (fun q => q = d'))) x) : V w l WF G (QM w G WF none d' m 0 0) d m 0 0 66 [mA o, mI v1, mI v2] [mL s3, mL s2, mI s1, mA (o + 126)] := by
  unfold fX8_tellSeats_66 at h
  refine v_ladd F dX8_tellSeats_66 ?_
  obtain ⟨hi10, h⟩ := ck_some h
  obtain ⟨d11, ed11, h⟩ := sd_some h
  refine v_last F dX8_tellSeats_67 (ar_X8_13 hX hp) hi10 ?_
  refine v_nD ed11 ?_
  obtain ⟨x12, ex12, h⟩ := lv_some h
  refine v_iincN F dX8_tellSeats_68 (Nat.le_of_ble_eq_true rfl) rfl ex12 (L' := [mA o, mI v1, mI x12]) rfl ?_
  refine v_goto F dX8_tellSeats_71 rfl ?_
  cases h
  exact K
theorem fX8_tellSeats_19f_ok {w : Wd} {l : Launch} {G : Cx} {m dd : Dt} {o v1 : Int} {d' : Dt} {s : Dt × Int} {x : ((Dt × Int) ⊕ ((Dt × Int) ⊕ Dt))} (F : Fx w G cX8_tellSeats RX8 3 none { frames := 1, cells := 0, slots := 0, locals := 22 }) (hX : WF dd m) (hp : PB m o 8) (h : fX8_tellSeats_19f o v1 s = some x) (K : (Sum.elim (fX8_tellSeats_19P w l G (QM w G WF none d' m 0 0) m o v1) (Sum.elim (fX8_tellSeats_2P w l G (QM w G WF none d' m 0 0) m o) (fun q => q = d'))) x) : V w l WF G (QM w G WF none d' m 0 0) s.1 m 0 0 19 [mA o, mI v1, mI (s.2)] [] := by
  obtain ⟨d, v2⟩ := s
  unfold fX8_tellSeats_19f at h
  dsimp only at h
  refine v_iload_n F dX8_tellSeats_19 rfl rfl ?_
  refine v_aload_n F dX8_tellSeats_20 rfl rfl ?_
  refine gf_X8_167 F dX8_tellSeats_21 hp ?_
  refine v_icmp_ge F dX8_tellSeats_24 rfl (fun hq6 => ?_) (fun hq6 => ?_)
  · rw [if_pos hq6] at h
    obtain ⟨z, hu, ez⟩ := up_some h
    clear h
    subst ez
    have h := hu
    clear hu
    obtain ⟨x7, ex7, h⟩ := lv_some h
    refine v_iincN F dX8_tellSeats_74 (Nat.le_of_ble_eq_true rfl) rfl ex7 (L' := [mA o, mI x7, mI v2]) rfl ?_
    refine v_goto F dX8_tellSeats_77 rfl ?_
    cases h
    refine v_fgt (L' := [mA o, mI x7, mU]) ⟨Or.inl rfl, Or.inl rfl, Or.inr rfl, trivial⟩ ?_
    exact K
  · rw [if_neg hq6] at h
    refine v_aload_n F dX8_tellSeats_27 rfl rfl ?_
    refine gf_X8_33 F dX8_tellSeats_28 hp (v := (o + 126)) rfl ?_
    refine v_iload_n F dX8_tellSeats_31 rfl rfl ?_
    refine v_dup2_IA F dX8_tellSeats_32 ?_
    obtain ⟨hi8, h⟩ := ck_some h
    refine v_lald F dX8_tellSeats_33 (ar_X8_13 hX hp) hi8 ?_
    refine v_aload_n F dX8_tellSeats_34 rfl rfl ?_
    refine gf_X8_9 F dX8_tellSeats_35 hp (v := (o + 1)) rfl ?_
    refine v_iload_n F dX8_tellSeats_38 rfl rfl ?_
    refine v_zald F dX8_tellSeats_39 (ar_X8_4 hX hp) hi8 ?_
    refine v_if_eq F dX8_tellSeats_40 rfl (fun hq9 => ?_) (fun hq9 => ?_)
    · rw [if_pos hq9] at h
      refine v_lconst0 F dX8_tellSeats_65 ?_
      exact fX8_tellSeats_66_ok F hX hp h K
    · rw [if_neg hq9] at h
      refine v_aload_n F dX8_tellSeats_43 rfl rfl ?_
      refine v_aload_n F dX8_tellSeats_44 rfl rfl ?_
      refine gf_X8_48 F dX8_tellSeats_45 hp (v := (o + 170)) rfl ?_
      refine v_iload_n F dX8_tellSeats_48 rfl rfl ?_
      obtain ⟨hi13, h⟩ := ck_some h
      refine v_iald F dX8_tellSeats_49 (ar_X8_18 hX hp) hi13 ?_
      obtain ⟨x14, hc15, h⟩ := b1_some h
      refine v_callVv (c := 8) F dX8_tellSeats_50 cv_X8_195 rfl (PB.ob hp hX (Nat.le_of_ble_eq_true rfl)) (Nat.le_of_ble_eq_true rfl) rfl (vm_X8_listOf hp hc15) rfl (rOk.of rfl) ?_
      refine v_aload_n F dX8_tellSeats_53 rfl rfl ?_
      refine v_iload_n F dX8_tellSeats_54 rfl rfl ?_
      obtain ⟨x16, hc17, h⟩ := b1_some h
      refine v_callVv (c := 8) F dX8_tellSeats_55 cv_X8_195 rfl (PB.ob hp hX (Nat.le_of_ble_eq_true rfl)) (Nat.le_of_ble_eq_true rfl) rfl (vm_X8_listOf hp hc17) rfl (rOk.of rfl) ?_
      refine v_icmp_ne F dX8_tellSeats_58 rfl (fun hq18 => ?_) (fun hq18 => ?_)
      · rw [if_neg hq18] at h
        refine v_lconst0 F dX8_tellSeats_65 ?_
        exact fX8_tellSeats_66_ok F hX hp h K
      · rw [if_pos hq18] at h
        refine v_lconst1 F dX8_tellSeats_61 ?_
        refine v_goto F dX8_tellSeats_62 rfl ?_
        exact fX8_tellSeats_66_ok F hX hp h K
theorem fX8_tellSeats_19_ok {w : Wd} {l : Launch} {G : Cx} {d m dd : Dt} {o v1 v2 : Int} {d' : Dt} {x : ((Dt × Int) ⊕ Dt)} (F : Fx w G cX8_tellSeats RX8 3 none { frames := 1, cells := 0, slots := 0, locals := 22 }) (hX : WF dd m) (hp : PB m o 8) (h : fX8_tellSeats_19 d o v1 v2 = some x) (K : (Sum.elim (fX8_tellSeats_2P w l G (QM w G WF none d' m 0 0) m o) (fun q => q = d')) x) : V w l WF G (QM w G WF none d' m 0 0) d m 0 0 19 [mA o, mI v1, mI v2] [] := by
  unfold fX8_tellSeats_19 at h
  exact loop_ok (P := fX8_tellSeats_19P w l G (QM w G WF none d' m 0 0) m o v1) (fun s x hx h1 h2 => fX8_tellSeats_19f_ok F hX hp hx (by
    cases x with
    | inl s' => exact h1 s' rfl
    | inr z => cases h2 z rfl; exact K)) h
theorem fX8_tellSeats_2f_ok {w : Wd} {l : Launch} {G : Cx} {m dd : Dt} {o : Int} {d' : Dt} {s : Dt × Int} {x : ((Dt × Int) ⊕ Dt)} (F : Fx w G cX8_tellSeats RX8 3 none { frames := 1, cells := 0, slots := 0, locals := 22 }) (hX : WF dd m) (hp : PB m o 8) (h : fX8_tellSeats_2f o s = some x) (K : (Sum.elim (fX8_tellSeats_2P w l G (QM w G WF none d' m 0 0) m o) (fun q => q = d')) x) : V w l WF G (QM w G WF none d' m 0 0) s.1 m 0 0 2 [mA o, mI (s.2), mU] [] := by
  obtain ⟨d, v1⟩ := s
  unfold fX8_tellSeats_2f at h
  dsimp only at h
  refine v_iload_n F dX8_tellSeats_2 rfl rfl ?_
  refine v_aload_n F dX8_tellSeats_3 rfl rfl ?_
  refine gf_X8_148 F dX8_tellSeats_4 hp ?_
  refine v_icmp_ge F dX8_tellSeats_7 rfl (fun hq1 => ?_) (fun hq1 => ?_)
  · rw [if_pos hq1] at h
    obtain ⟨z, hu, ez⟩ := up_some h
    clear h
    subst ez
    have h := hu
    clear hu
    refine v_aload_n F dX8_tellSeats_80 rfl rfl ?_
    obtain ⟨d2, hc3, h⟩ := bd_some h
    refine v_callV0 (c := 8) F dX8_tellSeats_81 cv_X8_254 rfl (PB.ob hp hX (Nat.le_of_ble_eq_true rfl)) (Nat.le_of_ble_eq_true rfl) rfl (vm_X8_tell hp hc3) rfl (rOk.of rfl) ?_
    cases h
    cases (show _ = d' from K)
    exact v_vret F dX8_tellSeats_84
  · rw [if_neg hq1] at h
    refine v_aload_n F dX8_tellSeats_10 rfl rfl ?_
    refine gf_X8_33 F dX8_tellSeats_11 hp (v := (o + 126)) rfl ?_
    refine v_iload_n F dX8_tellSeats_14 rfl rfl ?_
    refine v_lconst0 F dX8_tellSeats_15 ?_
    obtain ⟨hi4, h⟩ := ck_some h
    obtain ⟨d5, ed5, h⟩ := sd_some h
    refine v_last F dX8_tellSeats_16 (ar_X8_13 hX hp) hi4 ?_
    refine v_nD ed5 ?_
    refine v_iconst F dX8_tellSeats_17 ⟨by decide, by decide⟩ ?_
    refine v_istore_n F dX8_tellSeats_18 rfl (Nat.le_of_ble_eq_true rfl) (L' := [mA o, mI v1, mI 0]) rfl ?_
    exact fX8_tellSeats_19_ok F hX hp h K
theorem fX8_tellSeats_2_ok {w : Wd} {l : Launch} {G : Cx} {d m dd : Dt} {o v1 : Int} {d' : Dt} {x : Dt} (F : Fx w G cX8_tellSeats RX8 3 none { frames := 1, cells := 0, slots := 0, locals := 22 }) (hX : WF dd m) (hp : PB m o 8) (h : fX8_tellSeats_2 d o v1 = some x) (K : (fun q => q = d') x) : V w l WF G (QM w G WF none d' m 0 0) d m 0 0 2 [mA o, mI v1, mU] [] := by
  unfold fX8_tellSeats_2 at h
  exact loop_ok (P := fX8_tellSeats_2P w l G (QM w G WF none d' m 0 0) m o) (fun s x hx h1 h2 => fX8_tellSeats_2f_ok F hX hp hx (by
    cases x with
    | inl s' => exact h1 s' rfl
    | inr z => cases h2 z rfl; exact K)) h
theorem vm_X8_tellSeats {w : Wd} {l : Launch} {d m : Dt} {o : Int} {d' : Dt} (hp : PB m o 8) (h : fX8_tellSeats d o = some d') : VM w l WF yX8_tellSeats cX8_tellSeats 3 none 1 22 0 0 d m [mA o] none d' m := by
  obtain ⟨x, h, K⟩ : ∃ x, fX8_tellSeats d o = some x ∧ x = d' := ⟨_, h, rfl⟩
  refine VM.of (L := [mA o, mU, mU]) (by decide +kernel) rfl (Nat.le_of_ble_eq_true rfl) fun G F _ => v_fact fun _ hX _ _ => ?_
  unfold fX8_tellSeats at h
  refine v_iconst F dX8_tellSeats_0 ⟨by decide, by decide⟩ ?_
  refine v_istore_n F dX8_tellSeats_1 rfl (Nat.le_of_ble_eq_true rfl) (L' := [mA o, mI 0, mU]) rfl ?_
  exact fX8_tellSeats_2_ok F hX hp h K
theorem fX8_byLists_120_ok {w : Wd} {l : Launch} {G : Cx} {d m dd : Dt} {o : Int} {d' : Dt} {x : Dt} (F : Fx w G cX8_byLists RX8 1 none { frames := 4, cells := 0, slots := 0, locals := 101 }) (hX : WF dd m) (hp : PB m o 8) (h : fX8_byLists_120 d o = some x) (K : (fun q => q = d') x) : V w l WF G (QM w G WF none d' m 0 0) d m 0 0 120 [mA o] [] := by
  unfold fX8_byLists_120 at h
  refine v_aload_n F dX8_byLists_120 rfl rfl ?_
  obtain ⟨d19, hc20, h⟩ := bd_some h
  refine v_callV0 (c := 8) F dX8_byLists_121 cv_X8_495 rfl (PB.ob hp hX (Nat.le_of_ble_eq_true rfl)) (Nat.le_of_ble_eq_true rfl) rfl (vm_X8_tellSeats hp hc20) rfl (rOk.of rfl) ?_
  cases h
  cases (show _ = d' from K)
  exact v_vret F dX8_byLists_124
theorem fX8_byLists_116_ok {w : Wd} {l : Launch} {G : Cx} {d m dd : Dt} {o : Int} {d' : Dt} {x : Dt} (F : Fx w G cX8_byLists RX8 1 none { frames := 4, cells := 0, slots := 0, locals := 101 }) (hX : WF dd m) (hp : PB m o 8) (h : fX8_byLists_116 d o = some x) (K : (fun q => q = d') x) : V w l WF G (QM w G WF none d' m 0 0) d m 0 0 116 [mA o] [] := by
  unfold fX8_byLists_116 at h
  refine v_aload_n F dX8_byLists_116 rfl rfl ?_
  obtain ⟨d30, hc31, h⟩ := bd_some h
  refine v_callV0 (c := 8) F dX8_byLists_117 cv_X8_493 rfl (PB.ob hp hX (Nat.le_of_ble_eq_true rfl)) (Nat.le_of_ble_eq_true rfl) rfl (vm_X8_fill hp hc31) rfl (rOk.of rfl) ?_
  exact fX8_byLists_120_ok F hX hp h K
theorem fX8_byLists_73_ok {w : Wd} {l : Launch} {G : Cx} {d m dd : Dt} {o s1 : Int} {d' : Dt} {x : Dt} (F : Fx w G cX8_byLists RX8 1 none { frames := 4, cells := 0, slots := 0, locals := 101 }) (hX : WF dd m) (hp : PB m o 8) (h : fX8_byLists_73 d o s1 = some x) (K : (fun q => q = d') x) : V w l WF G (QM w G WF none d' m 0 0) d m 0 0 73 [mA o] [mI s1, mA o] := by
  unfold fX8_byLists_73 at h
  obtain ⟨d15, ed15, h⟩ := sd_some h
  refine pf_X8_170 F dX8_byLists_73 hp ?_
  refine v_nD ed15 ?_
  refine v_aload_n F dX8_byLists_76 rfl rfl ?_
  obtain ⟨d16, hc17, h⟩ := bd_some h
  refine v_callV0 (c := 8) F dX8_byLists_77 cv_X8_487 rfl (PB.ob hp hX (Nat.le_of_ble_eq_true rfl)) (Nat.le_of_ble_eq_true rfl) rfl (vm_X8_admit hp hc17) rfl (rOk.of rfl) ?_
  refine v_aload_n F dX8_byLists_80 rfl rfl ?_
  refine gf_X8_425 F dX8_byLists_81 hp ?_
  refine v_if_le F dX8_byLists_84 rfl (fun hq18 => ?_) (fun hq18 => ?_)
  · rw [if_pos hq18] at h
    exact fX8_byLists_120_ok F hX hp h K
  · rw [if_neg hq18] at h
    refine v_aload_n F dX8_byLists_87 rfl rfl ?_
    obtain ⟨x21, ex21, h⟩ := lv_some h
    obtain ⟨hn23, h⟩ := ck_some h
    refine gf_X8_131 F dX8_byLists_88 hp ex21 fun hr22 => ?_
    have x21p := hr22.resolve_left hn23
    refine gf_X8_469 F dX8_byLists_91 x21p ?_
    refine v_if_eq F dX8_byLists_94 rfl (fun hq24 => ?_) (fun hq24 => ?_)
    · rw [if_pos hq24] at h
      refine v_aload_n F dX8_byLists_104 rfl rfl ?_
      refine v_aload_n F dX8_byLists_105 rfl rfl ?_
      obtain ⟨x25, ex25, h⟩ := lv_some h
      obtain ⟨hn27, h⟩ := ck_some h
      refine gf_X8_131 F dX8_byLists_106 hp ex25 fun hr26 => ?_
      have x25p := hr26.resolve_left hn27
      refine gf_X8_185 F dX8_byLists_109 x25p ?_
      refine v_iconst F dX8_byLists_112 ⟨by decide, by decide⟩ ?_
      obtain ⟨d28, hc29, h⟩ := bd_some h
      refine v_callV0 (c := 8) F dX8_byLists_113 cv_X8_459 rfl (PB.ob hp hX (Nat.le_of_ble_eq_true rfl)) (Nat.le_of_ble_eq_true rfl) rfl (vm_X8_deal hp hc29) rfl (rOk.of rfl) ?_
      exact fX8_byLists_116_ok F hX hp h K
    · rw [if_neg hq24] at h
      refine v_aload_n F dX8_byLists_97 rfl rfl ?_
      obtain ⟨d32, hc33, h⟩ := bd_some h
      refine v_callV0 (c := 8) F dX8_byLists_98 cv_X8_490 rfl (PB.ob hp hX (Nat.le_of_ble_eq_true rfl)) (Nat.le_of_ble_eq_true rfl) rfl (vm_X8_level hp hc33) rfl (rOk.of rfl) ?_
      refine v_goto F dX8_byLists_101 rfl ?_
      exact fX8_byLists_116_ok F hX hp h K
theorem vm_X8_byLists {w : Wd} {l : Launch} {d m : Dt} {o : Int} {d' : Dt} (hp : PB m o 8) (h : fX8_byLists d o = some d') : VM w l WF yX8_byLists cX8_byLists 1 none 4 101 0 0 d m [mA o] none d' m := by
  obtain ⟨x, h, K⟩ : ∃ x, fX8_byLists d o = some x ∧ x = d' := ⟨_, h, rfl⟩
  refine VM.of (L := [mA o]) (by decide +kernel) rfl (Nat.le_of_ble_eq_true rfl) fun G F _ => v_fact fun _ hX _ _ => ?_
  unfold fX8_byLists at h
  refine v_aload_n F dX8_byLists_0 rfl rfl ?_
  obtain ⟨d1, hc2, h⟩ := bd_some h
  refine v_callV0 (c := 8) F dX8_byLists_1 cv_X8_478 rfl (PB.ob hp hX (Nat.le_of_ble_eq_true rfl)) (Nat.le_of_ble_eq_true rfl) rfl (vm_X8_gatherLists hp hc2) rfl (rOk.of rfl) ?_
  refine v_aload_n F dX8_byLists_4 rfl rfl ?_
  obtain ⟨d3, hc4, h⟩ := bd_some h
  refine v_callV0 (c := 8) F dX8_byLists_5 cv_X8_481 rfl (PB.ob hp hX (Nat.le_of_ble_eq_true rfl)) (Nat.le_of_ble_eq_true rfl) rfl (vm_X8_countLists hp hc4) rfl (rOk.of rfl) ?_
  refine v_aload_n F dX8_byLists_8 rfl rfl ?_
  obtain ⟨d5, hc6, h⟩ := bd_some h
  refine v_callV0 (c := 8) F dX8_byLists_9 cv_X8_254 rfl (PB.ob hp hX (Nat.le_of_ble_eq_true rfl)) (Nat.le_of_ble_eq_true rfl) rfl (vm_X8_tell hp hc6) rfl (rOk.of rfl) ?_
  refine v_aload_n F dX8_byLists_12 rfl rfl ?_
  refine gf_X8_33 F dX8_byLists_13 hp (v := (o + 126)) rfl ?_
  refine v_iconst F dX8_byLists_16 ⟨by decide, by decide⟩ ?_
  refine v_aload_n F dX8_byLists_17 rfl rfl ?_
  refine gf_X8_128 F dX8_byLists_18 hp (v := (o + 241)) rfl ?_
  refine v_iconst F dX8_byLists_21 ⟨by decide, by decide⟩ ?_
  refine v_bipush F dX8_byLists_22 rfl ⟨by decide, by decide⟩ ?_
  obtain ⟨d7, ed7, h⟩ := cd_some h
  refine v_copy (t := 104) F dX8_byLists_24 ca_X8_203 (ar_X8_13 hX hp) (ar_X8_53 hX hp) (Nat.le_of_ble_eq_true rfl) (Or.inr (Or.inr (Or.inl rfl))) rfl rfl ⟨by decide, by decide, by decide, by decide, by decide⟩ rfl ?_
  refine v_nD ed7 ?_
  refine v_aload_n F dX8_byLists_27 rfl rfl ?_
  obtain ⟨d8, hc9, h⟩ := bd_some h
  refine v_callV0 (c := 8) F dX8_byLists_28 cv_X8_484 rfl (PB.ob hp hX (Nat.le_of_ble_eq_true rfl)) (Nat.le_of_ble_eq_true rfl) rfl (vm_X8_tellLists hp hc9) rfl (rOk.of rfl) ?_
  refine v_aload_n F dX8_byLists_31 rfl rfl ?_
  refine gf_X8_128 F dX8_byLists_32 hp (v := (o + 241)) rfl ?_
  refine v_iconst F dX8_byLists_35 ⟨by decide, by decide⟩ ?_
  refine v_aload_n F dX8_byLists_36 rfl rfl ?_
  refine gf_X8_33 F dX8_byLists_37 hp (v := (o + 126)) rfl ?_
  refine v_iconst F dX8_byLists_40 ⟨by decide, by decide⟩ ?_
  refine v_bipush F dX8_byLists_41 rfl ⟨by decide, by decide⟩ ?_
  obtain ⟨d10, ed10, h⟩ := cd_some h
  refine v_copy (t := 104) F dX8_byLists_43 ca_X8_203 (ar_X8_53 hX hp) (ar_X8_13 hX hp) (Nat.le_of_ble_eq_true rfl) (Or.inr (Or.inr (Or.inl rfl))) rfl rfl ⟨by decide, by decide, by decide, by decide, by decide⟩ rfl ?_
  refine v_nD ed10 ?_
  refine v_aload_n F dX8_byLists_46 rfl rfl ?_
  refine v_aload_n F dX8_byLists_47 rfl rfl ?_
  obtain ⟨x11, ex11, h⟩ := lv_some h
  obtain ⟨hn13, h⟩ := ck_some h
  refine gf_X8_131 F dX8_byLists_48 hp ex11 fun hr12 => ?_
  have x11p := hr12.resolve_left hn13
  refine gf_X8_469 F dX8_byLists_51 x11p ?_
  refine v_if_eq F dX8_byLists_54 rfl (fun hq14 => ?_) (fun hq14 => ?_)
  · rw [if_pos hq14] at h
    refine v_iconst F dX8_byLists_72 ⟨by decide, by decide⟩ ?_
    exact fX8_byLists_73_ok F hX hp h K
  · rw [if_neg hq14] at h
    refine v_aload_n F dX8_byLists_57 rfl rfl ?_
    obtain ⟨x34, ex34, h⟩ := lv_some h
    obtain ⟨hn36, h⟩ := ck_some h
    refine gf_X8_131 F dX8_byLists_58 hp ex34 fun hr35 => ?_
    have x34p := hr35.resolve_left hn36
    refine gf_X8_185 F dX8_byLists_61 x34p ?_
    refine v_aload_n F dX8_byLists_64 rfl rfl ?_
    refine gf_X8_456 F dX8_byLists_65 hp ?_
    refine v_iadd F dX8_byLists_68 ?_
    refine v_goto F dX8_byLists_69 rfl ?_
    exact fX8_byLists_73_ok F hX hp h K
def fX8_rankAll_2P (w : Wd) (l : Launch) (G : Cx) (Q : State → Prop) (m : Dt) (o : Int) (s : Dt × Int) : Prop := V w l WF G Q s.1 m 0 0 2 [mA o, mI (s.2)] []
theorem fX8_rankAll_2f_ok {w : Wd} {l : Launch} {G : Cx} {m dd : Dt} {o : Int} {d' : Dt} {s : Dt × Int} {x : ((Dt × Int) ⊕ Dt)} (F : Fx w G cX8_rankAll RX8 2 none { frames := 1, cells := 0, slots := 0, locals := 40 }) (hX : WF dd m) (hp : PB m o 8) (h : fX8_rankAll_2f o s = some x) (K : (Sum.elim (fX8_rankAll_2P w l G (QM w G WF none d' m 0 0) m o) (fun q => q = d')) x) : V w l WF G (QM w G WF none d' m 0 0) s.1 m 0 0 2 [mA o, mI (s.2)] [] := by
  obtain ⟨d, v1⟩ := s
  unfold fX8_rankAll_2f at h
  dsimp only at h
  refine v_iload_n F dX8_rankAll_2 rfl rfl ?_
  refine v_aload_n F dX8_rankAll_3 rfl rfl ?_
  refine gf_X8_155 F dX8_rankAll_4 hp ?_
  refine v_icmp_ge F dX8_rankAll_7 rfl (fun hq1 => ?_) (fun hq1 => ?_)
  · rw [if_pos hq1] at h
    obtain ⟨z, hu, ez⟩ := up_some h
    clear h
    subst ez
    have h := hu
    clear hu
    cases h
    cases (show _ = d' from K)
    exact v_vret F dX8_rankAll_49
  · rw [if_neg hq1] at h
    refine v_aload_n F dX8_rankAll_10 rfl rfl ?_
    refine gf_X8_17 F dX8_rankAll_11 hp (v := (o + 2)) rfl ?_
    refine v_iload_n F dX8_rankAll_14 rfl rfl ?_
    obtain ⟨hi2, h⟩ := ck_some h
    refine v_aaldF (c := 8) (k := 6) F dX8_rankAll_15 hp (Nat.le_of_ble_eq_true rfl) (Nat.le_of_ble_eq_true rfl) (by decide) (by decide) rfl (ar_X8_6 hX hp) (Nat.le_of_ble_eq_true rfl) rfl rfl rfl rfl hi2 (v := ((o + 3) + v1)) (by show o + 3 + 1 * v1 = _; omega) ?_
    refine v_iconst F dX8_rankAll_16 ⟨by decide, by decide⟩ ?_
    refine v_aload_n F dX8_rankAll_17 rfl rfl ?_
    refine gf_X8_20 F dX8_rankAll_18 hp (v := (o + 63)) rfl ?_
    refine v_iconst F dX8_rankAll_21 ⟨by decide, by decide⟩ ?_
    refine v_bipush F dX8_rankAll_22 rfl ⟨by decide, by decide⟩ ?_
    obtain ⟨d3, ed3, h⟩ := cd_some h
    refine v_copy (t := 102) F dX8_rankAll_24 ca_X8_203 (ae_X8_6 (i := v1) hX hp hi2 (v := ((o + 3) + v1)) (by omega)) (ar_X8_7 hX hp) (Nat.le_of_ble_eq_true rfl) (Or.inr (Or.inl rfl)) rfl rfl ⟨by decide, by decide, by decide, by decide, by decide⟩ rfl ?_
    refine v_nD ed3 ?_
    refine v_aload_n F dX8_rankAll_27 rfl rfl ?_
    refine gf_X8_29 F dX8_rankAll_28 hp (v := (o + 125)) rfl ?_
    refine v_iload_n F dX8_rankAll_31 rfl rfl ?_
    refine v_aload_n F dX8_rankAll_32 rfl rfl ?_
    refine v_aload_n F dX8_rankAll_33 rfl rfl ?_
    refine gf_X8_26 F dX8_rankAll_34 hp (v := (o + 64)) rfl ?_
    refine v_iload_n F dX8_rankAll_37 rfl rfl ?_
    refine v_aaldF (c := 8) (k := 11) F dX8_rankAll_38 hp (Nat.le_of_ble_eq_true rfl) (Nat.le_of_ble_eq_true rfl) (by decide) (by decide) rfl (ar_X8_11 hX hp) (Nat.le_of_ble_eq_true rfl) rfl rfl rfl rfl hi2 (v := ((o + 65) + v1)) (by show o + 65 + 1 * v1 = _; omega) ?_
    obtain ⟨d4, x6, hc5, h⟩ := b2_some h
    refine v_callVv (c := 8) F dX8_rankAll_39 cv_X8_187 rfl (PB.ob hp hX (Nat.le_of_ble_eq_true rfl)) (Nat.le_of_ble_eq_true rfl) rfl (vm_X8_rank hp (ae_X8_11 (i := v1) hX hp hi2 (v := ((o + 65) + v1)) (by omega)) hc5) rfl (rOk.of rfl) ?_
    obtain ⟨d7, ed7, h⟩ := sd_some h
    refine v_iast F dX8_rankAll_42 (ar_X8_12 hX hp) hi2 ?_
    refine v_nD ed7 ?_
    obtain ⟨x8, ex8, h⟩ := lv_some h
    refine v_iincN F dX8_rankAll_43 (Nat.le_of_ble_eq_true rfl) rfl ex8 (L' := [mA o, mI x8]) rfl ?_
    refine v_goto F dX8_rankAll_46 rfl ?_
    cases h
    exact K
theorem fX8_rankAll_2_ok {w : Wd} {l : Launch} {G : Cx} {d m dd : Dt} {o v1 : Int} {d' : Dt} {x : Dt} (F : Fx w G cX8_rankAll RX8 2 none { frames := 1, cells := 0, slots := 0, locals := 40 }) (hX : WF dd m) (hp : PB m o 8) (h : fX8_rankAll_2 d o v1 = some x) (K : (fun q => q = d') x) : V w l WF G (QM w G WF none d' m 0 0) d m 0 0 2 [mA o, mI v1] [] := by
  unfold fX8_rankAll_2 at h
  exact loop_ok (P := fX8_rankAll_2P w l G (QM w G WF none d' m 0 0) m o) (fun s x hx h1 h2 => fX8_rankAll_2f_ok F hX hp hx (by
    cases x with
    | inl s' => exact h1 s' rfl
    | inr z => cases h2 z rfl; exact K)) h
theorem vm_X8_rankAll {w : Wd} {l : Launch} {d m : Dt} {o : Int} {d' : Dt} (hp : PB m o 8) (h : fX8_rankAll d o = some d') : VM w l WF yX8_rankAll cX8_rankAll 2 none 1 40 0 0 d m [mA o] none d' m := by
  obtain ⟨x, h, K⟩ : ∃ x, fX8_rankAll d o = some x ∧ x = d' := ⟨_, h, rfl⟩
  refine VM.of (L := [mA o, mU]) (by decide +kernel) rfl (Nat.le_of_ble_eq_true rfl) fun G F _ => v_fact fun _ hX _ _ => ?_
  unfold fX8_rankAll at h
  refine v_iconst F dX8_rankAll_0 ⟨by decide, by decide⟩ ?_
  refine v_istore_n F dX8_rankAll_1 rfl (Nat.le_of_ble_eq_true rfl) (L' := [mA o, mI 0]) rfl ?_
  exact fX8_rankAll_2_ok F hX hp h K
def fX8_places_14P (w : Wd) (l : Launch) (G : Cx) (Q : State → Prop) (m : Dt) (o : Int) (s : Dt × Int) : Prop := V w l WF G Q s.1 m 0 0 14 [mA o, mI (s.2), mU] []
def fX8_places_24P (w : Wd) (l : Launch) (G : Cx) (Q : State → Prop) (m : Dt) (o v1 : Int) (s : Dt × Int) : Prop := V w l WF G Q s.1 m 0 0 24 [mA o, mI v1, mI (s.2)] []
theorem fX8_places_24f_ok {w : Wd} {l : Launch} {G : Cx} {m dd : Dt} {o v1 : Int} {d' : Dt} {s : Dt × Int} {x : ((Dt × Int) ⊕ ((Dt × Int) ⊕ Dt))} (F : Fx w G cX8_places RX8 3 none { frames := 2, cells := 0, slots := 0, locals := 61 }) (hX : WF dd m) (hp : PB m o 8) (h : fX8_places_24f o v1 s = some x) (K : (Sum.elim (fX8_places_24P w l G (QM w G WF none d' m 0 0) m o v1) (Sum.elim (fX8_places_14P w l G (QM w G WF none d' m 0 0) m o) (fun q => q = d'))) x) : V w l WF G (QM w G WF none d' m 0 0) s.1 m 0 0 24 [mA o, mI v1, mI (s.2)] [] := by
  obtain ⟨d, v2⟩ := s
  unfold fX8_places_24f at h
  dsimp only at h
  refine v_iload_n F dX8_places_24 rfl rfl ?_
  refine v_aload_n F dX8_places_25 rfl rfl ?_
  refine gf_X8_29 F dX8_places_26 hp (v := (o + 125)) rfl ?_
  refine v_iload_n F dX8_places_29 rfl rfl ?_
  obtain ⟨hi6, h⟩ := ck_some h
  refine v_iald F dX8_places_30 (ar_X8_12 hX hp) hi6 ?_
  refine v_icmp_ge F dX8_places_31 rfl (fun hq7 => ?_) (fun hq7 => ?_)
  · rw [if_pos hq7] at h
    obtain ⟨z, hu, ez⟩ := up_some h
    clear h
    subst ez
    have h := hu
    clear hu
    obtain ⟨x8, ex8, h⟩ := lv_some h
    refine v_iincN F dX8_places_65 (Nat.le_of_ble_eq_true rfl) rfl ex8 (L' := [mA o, mI x8, mI v2]) rfl ?_
    refine v_goto F dX8_places_68 rfl ?_
    cases h
    refine v_fgt (L' := [mA o, mI x8, mU]) ⟨Or.inl rfl, Or.inl rfl, Or.inr rfl, trivial⟩ ?_
    exact K
  · rw [if_neg hq7] at h
    refine v_aload_n F dX8_places_34 rfl rfl ?_
    refine gf_X8_33 F dX8_places_35 hp (v := (o + 126)) rfl ?_
    refine v_aload_n F dX8_places_38 rfl rfl ?_
    refine gf_X8_26 F dX8_places_39 hp (v := (o + 64)) rfl ?_
    refine v_iload_n F dX8_places_42 rfl rfl ?_
    refine v_aaldF (c := 8) (k := 11) F dX8_places_43 hp (Nat.le_of_ble_eq_true rfl) (Nat.le_of_ble_eq_true rfl) (by decide) (by decide) rfl (ar_X8_11 hX hp) (Nat.le_of_ble_eq_true rfl) rfl rfl rfl rfl hi6 (v := ((o + 65) + v1)) (by show o + 65 + 1 * v1 = _; omega) ?_
    refine v_iload_n F dX8_places_44 rfl rfl ?_
    obtain ⟨hi9, h⟩ := ck_some h
    refine v_iald F dX8_places_45 (ae_X8_11 (i := v1) hX hp hi6 (v := ((o + 65) + v1)) (by omega)) hi9 ?_
    obtain ⟨x10, ex10, h⟩ := lv_some h
    refine v_nI ex10 ?_
    refine v_dup2_IA F dX8_places_46 ?_
    obtain ⟨hi11, h⟩ := ck_some h
    refine v_lald F dX8_places_47 (ar_X8_13 hX hp) hi11 ?_
    refine v_aload_n F dX8_places_48 rfl rfl ?_
    refine gf_X8_149 F dX8_places_49 hp ?_
    refine v_iconst F dX8_places_52 ⟨by decide, by decide⟩ ?_
    refine v_isub F dX8_places_53 ?_
    refine v_iload_n F dX8_places_54 rfl rfl ?_
    refine v_isub F dX8_places_55 ?_
    refine v_i2l F dX8_places_56 ?_
    refine v_ladd F dX8_places_57 ?_
    obtain ⟨d12, ed12, h⟩ := sd_some h
    refine v_last F dX8_places_58 (ar_X8_13 hX hp) hi11 ?_
    refine v_nD ed12 ?_
    obtain ⟨x13, ex13, h⟩ := lv_some h
    refine v_iincN F dX8_places_59 (Nat.le_of_ble_eq_true rfl) rfl ex13 (L' := [mA o, mI v1, mI x13]) rfl ?_
    refine v_goto F dX8_places_62 rfl ?_
    cases h
    exact K
theorem fX8_places_24_ok {w : Wd} {l : Launch} {G : Cx} {d m dd : Dt} {o v1 v2 : Int} {d' : Dt} {x : ((Dt × Int) ⊕ Dt)} (F : Fx w G cX8_places RX8 3 none { frames := 2, cells := 0, slots := 0, locals := 61 }) (hX : WF dd m) (hp : PB m o 8) (h : fX8_places_24 d o v1 v2 = some x) (K : (Sum.elim (fX8_places_14P w l G (QM w G WF none d' m 0 0) m o) (fun q => q = d')) x) : V w l WF G (QM w G WF none d' m 0 0) d m 0 0 24 [mA o, mI v1, mI v2] [] := by
  unfold fX8_places_24 at h
  exact loop_ok (P := fX8_places_24P w l G (QM w G WF none d' m 0 0) m o v1) (fun s x hx h1 h2 => fX8_places_24f_ok F hX hp hx (by
    cases x with
    | inl s' => exact h1 s' rfl
    | inr z => cases h2 z rfl; exact K)) h
theorem fX8_places_14f_ok {w : Wd} {l : Launch} {G : Cx} {m dd : Dt} {o : Int} {d' : Dt} {s : Dt × Int} {x : ((Dt × Int) ⊕ Dt)} (F : Fx w G cX8_places RX8 3 none { frames := 2, cells := 0, slots := 0, locals := 61 }) (hX : WF dd m) (hp : PB m o 8) (h : fX8_places_14f o s = some x) (K : (Sum.elim (fX8_places_14P w l G (QM w G WF none d' m 0 0) m o) (fun q => q = d')) x) : V w l WF G (QM w G WF none d' m 0 0) s.1 m 0 0 14 [mA o, mI (s.2), mU] [] := by
  obtain ⟨d, v1⟩ := s
  unfold fX8_places_14f at h
  dsimp only at h
  refine v_iload_n F dX8_places_14 rfl rfl ?_
  refine v_aload_n F dX8_places_15 rfl rfl ?_
  refine gf_X8_155 F dX8_places_16 hp ?_
  refine v_icmp_ge F dX8_places_19 rfl (fun hq5 => ?_) (fun hq5 => ?_)
  · rw [if_pos hq5] at h
    obtain ⟨z, hu, ez⟩ := up_some h
    clear h
    subst ez
    have h := hu
    clear hu
    cases h
    cases (show _ = d' from K)
    exact v_vret F dX8_places_71
  · rw [if_neg hq5] at h
    refine v_iconst F dX8_places_22 ⟨by decide, by decide⟩ ?_
    refine v_istore_n F dX8_places_23 rfl (Nat.le_of_ble_eq_true rfl) (L' := [mA o, mI v1, mI 0]) rfl ?_
    exact fX8_places_24_ok F hX hp h K
theorem fX8_places_14_ok {w : Wd} {l : Launch} {G : Cx} {d m dd : Dt} {o v1 : Int} {d' : Dt} {x : Dt} (F : Fx w G cX8_places RX8 3 none { frames := 2, cells := 0, slots := 0, locals := 61 }) (hX : WF dd m) (hp : PB m o 8) (h : fX8_places_14 d o v1 = some x) (K : (fun q => q = d') x) : V w l WF G (QM w G WF none d' m 0 0) d m 0 0 14 [mA o, mI v1, mU] [] := by
  unfold fX8_places_14 at h
  exact loop_ok (P := fX8_places_14P w l G (QM w G WF none d' m 0 0) m o) (fun s x hx h1 h2 => fX8_places_14f_ok F hX hp hx (by
    cases x with
    | inl s' => exact h1 s' rfl
    | inr z => cases h2 z rfl; exact K)) h
theorem vm_X8_places {w : Wd} {l : Launch} {d m : Dt} {o : Int} {d' : Dt} (hp : PB m o 8) (h : fX8_places d o = some d') : VM w l WF yX8_places cX8_places 3 none 2 61 0 0 d m [mA o] none d' m := by
  obtain ⟨x, h, K⟩ : ∃ x, fX8_places d o = some x ∧ x = d' := ⟨_, h, rfl⟩
  refine VM.of (L := [mA o, mU, mU]) (by decide +kernel) rfl (Nat.le_of_ble_eq_true rfl) fun G F _ => v_fact fun _ hX _ _ => ?_
  unfold fX8_places at h
  refine v_aload_n F dX8_places_0 rfl rfl ?_
  obtain ⟨d1, hc2, h⟩ := bd_some h
  refine v_callV0 (c := 8) F dX8_places_1 cv_X8_239 rfl (PB.ob hp hX (Nat.le_of_ble_eq_true rfl)) (Nat.le_of_ble_eq_true rfl) rfl (vm_X8_rankAll hp hc2) rfl (rOk.of rfl) ?_
  refine v_aload_n F dX8_places_4 rfl rfl ?_
  refine gf_X8_33 F dX8_places_5 hp (v := (o + 126)) rfl ?_
  refine v_lconst0 F dX8_places_8 ?_
  obtain ⟨d3, hc4, h⟩ := bd_some h
  refine v_callS0 F dX8_places_9 cs_X8_242 rfl (vm_J4_fill_3 (ar_X8_13 hX hp) hc4) rfl (rOk.of rfl) ?_
  refine v_iconst F dX8_places_12 ⟨by decide, by decide⟩ ?_
  refine v_istore_n F dX8_places_13 rfl (Nat.le_of_ble_eq_true rfl) (L' := [mA o, mI 0, mU]) rfl ?_
  exact fX8_places_14_ok F hX hp h K
def fX8_sums_2P (w : Wd) (l : Launch) (G : Cx) (Q : State → Prop) (m : Dt) (o : Int) (s : Dt × Int) : Prop := V w l WF G Q s.1 m 0 0 2 [mA o, mI (s.2), mU] []
def fX8_sums_19P (w : Wd) (l : Launch) (G : Cx) (Q : State → Prop) (m : Dt) (o v1 : Int) (s : Dt × Int) : Prop := V w l WF G Q s.1 m 0 0 19 [mA o, mI v1, mI (s.2)] []
theorem fX8_sums_73_ok {w : Wd} {l : Launch} {G : Cx} {d m dd : Dt} {o v1 v2 s1 s2 s3 : Int} {d' : Dt} {x : ((Dt × Int) ⊕ ((Dt × Int) ⊕ Dt))} (F : Fx w G cX8_sums RX8 3 none { frames := 0, cells := 0, slots := 0, locals := 0 }) (hX : WF dd m) (hp : PB m o 8) (h : fX8_sums_73 d o v1 v2 s1 s2 s3 = some x) (K : (Sum.elim (fX8_sums_19P w l G (QM w G WF none d' m 0 0) m o v1) (Sum.elim (fX8_sums_2P w l G (QM w G WF none d' m 0 0) m o) (fun q => q = d'))) x) : V w l WF G (QM w G WF none d' m 0 0) d m 0 0 73 [mA o, mI v1, mI v2] [mL s3, mL s2, mI s1, mA (o + 126)] := by
  unfold fX8_sums_73 at h
  refine v_ladd F dX8_sums_73 ?_
  obtain ⟨hi13, h⟩ := ck_some h
  obtain ⟨d14, ed14, h⟩ := sd_some h
  refine v_last F dX8_sums_74 (ar_X8_13 hX hp) hi13 ?_
  refine v_nD ed14 ?_
  obtain ⟨x15, ex15, h⟩ := lv_some h
  refine v_iincN F dX8_sums_75 (Nat.le_of_ble_eq_true rfl) rfl ex15 (L' := [mA o, mI v1, mI x15]) rfl ?_
  refine v_goto F dX8_sums_78 rfl ?_
  cases h
  exact K
theorem fX8_sums_19f_ok {w : Wd} {l : Launch} {G : Cx} {m dd : Dt} {o v1 : Int} {d' : Dt} {s : Dt × Int} {x : ((Dt × Int) ⊕ ((Dt × Int) ⊕ Dt))} (F : Fx w G cX8_sums RX8 3 none { frames := 0, cells := 0, slots := 0, locals := 0 }) (hX : WF dd m) (hp : PB m o 8) (h : fX8_sums_19f o v1 s = some x) (K : (Sum.elim (fX8_sums_19P w l G (QM w G WF none d' m 0 0) m o v1) (Sum.elim (fX8_sums_2P w l G (QM w G WF none d' m 0 0) m o) (fun q => q = d'))) x) : V w l WF G (QM w G WF none d' m 0 0) s.1 m 0 0 19 [mA o, mI v1, mI (s.2)] [] := by
  obtain ⟨d, v2⟩ := s
  unfold fX8_sums_19f at h
  dsimp only at h
  refine v_iload_n F dX8_sums_19 rfl rfl ?_
  refine v_aload_n F dX8_sums_20 rfl rfl ?_
  refine gf_X8_155 F dX8_sums_21 hp ?_
  refine v_icmp_ge F dX8_sums_24 rfl (fun hq4 => ?_) (fun hq4 => ?_)
  · rw [if_pos hq4] at h
    obtain ⟨z, hu, ez⟩ := up_some h
    clear h
    subst ez
    have h := hu
    clear hu
    obtain ⟨x5, ex5, h⟩ := lv_some h
    refine v_iincN F dX8_sums_81 (Nat.le_of_ble_eq_true rfl) rfl ex5 (L' := [mA o, mI x5, mI v2]) rfl ?_
    refine v_goto F dX8_sums_84 rfl ?_
    cases h
    refine v_fgt (L' := [mA o, mI x5, mU]) ⟨Or.inl rfl, Or.inl rfl, Or.inr rfl, trivial⟩ ?_
    exact K
  · rw [if_neg hq4] at h
    refine v_aload_n F dX8_sums_27 rfl rfl ?_
    refine gf_X8_33 F dX8_sums_28 hp (v := (o + 126)) rfl ?_
    refine v_iload_n F dX8_sums_31 rfl rfl ?_
    refine v_dup2_IA F dX8_sums_32 ?_
    obtain ⟨hi6, h⟩ := ck_some h
    refine v_lald F dX8_sums_33 (ar_X8_13 hX hp) hi6 ?_
    refine v_aload_n F dX8_sums_34 rfl rfl ?_
    obtain ⟨x7, ex7, h⟩ := lv_some h
    obtain ⟨hn9, h⟩ := ck_some h
    refine gf_X8_131 F dX8_sums_35 hp ex7 fun hr8 => ?_
    have x7p := hr8.resolve_left hn9
    refine gf_X8_180 F dX8_sums_38 x7p ?_
    refine v_iconst F dX8_sums_41 ⟨by decide, by decide⟩ ?_
    refine v_icmp_ne F dX8_sums_42 rfl (fun hq10 => ?_) (fun hq10 => ?_)
    · rw [if_neg hq10] at h
      refine v_aload_n F dX8_sums_57 rfl rfl ?_
      refine gf_X8_17 F dX8_sums_58 hp (v := (o + 2)) rfl ?_
      refine v_iload_n F dX8_sums_61 rfl rfl ?_
      obtain ⟨hi11, h⟩ := ck_some h
      refine v_aaldF (c := 8) (k := 6) F dX8_sums_62 hp (Nat.le_of_ble_eq_true rfl) (Nat.le_of_ble_eq_true rfl) (by decide) (by decide) rfl (ar_X8_6 hX hp) (Nat.le_of_ble_eq_true rfl) rfl rfl rfl rfl hi11 (v := ((o + 3) + v2)) (by show o + 3 + 1 * v2 = _; omega) ?_
      refine v_iload_n F dX8_sums_63 rfl rfl ?_
      refine v_bald F dX8_sums_64 (ae_X8_6 (i := v2) hX hp hi11 (v := ((o + 3) + v2)) (by omega)) hi6 ?_
      refine v_if_le F dX8_sums_65 rfl (fun hq12 => ?_) (fun hq12 => ?_)
      · rw [if_pos hq12] at h
        refine v_lconst0 F dX8_sums_72 ?_
        exact fX8_sums_73_ok F hX hp h K
      · rw [if_neg hq12] at h
        refine v_lconst1 F dX8_sums_68 ?_
        refine v_goto F dX8_sums_69 rfl ?_
        exact fX8_sums_73_ok F hX hp h K
    · rw [if_pos hq10] at h
      refine v_aload_n F dX8_sums_45 rfl rfl ?_
      refine gf_X8_17 F dX8_sums_46 hp (v := (o + 2)) rfl ?_
      refine v_iload_n F dX8_sums_49 rfl rfl ?_
      obtain ⟨hi16, h⟩ := ck_some h
      refine v_aaldF (c := 8) (k := 6) F dX8_sums_50 hp (Nat.le_of_ble_eq_true rfl) (Nat.le_of_ble_eq_true rfl) (by decide) (by decide) rfl (ar_X8_6 hX hp) (Nat.le_of_ble_eq_true rfl) rfl rfl rfl rfl hi16 (v := ((o + 3) + v2)) (by show o + 3 + 1 * v2 = _; omega) ?_
      refine v_iload_n F dX8_sums_51 rfl rfl ?_
      refine v_bald F dX8_sums_52 (ae_X8_6 (i := v2) hX hp hi16 (v := ((o + 3) + v2)) (by omega)) hi6 ?_
      refine v_i2l F dX8_sums_53 ?_
      refine v_goto F dX8_sums_54 rfl ?_
      exact fX8_sums_73_ok F hX hp h K
theorem fX8_sums_19_ok {w : Wd} {l : Launch} {G : Cx} {d m dd : Dt} {o v1 v2 : Int} {d' : Dt} {x : ((Dt × Int) ⊕ Dt)} (F : Fx w G cX8_sums RX8 3 none { frames := 0, cells := 0, slots := 0, locals := 0 }) (hX : WF dd m) (hp : PB m o 8) (h : fX8_sums_19 d o v1 v2 = some x) (K : (Sum.elim (fX8_sums_2P w l G (QM w G WF none d' m 0 0) m o) (fun q => q = d')) x) : V w l WF G (QM w G WF none d' m 0 0) d m 0 0 19 [mA o, mI v1, mI v2] [] := by
  unfold fX8_sums_19 at h
  exact loop_ok (P := fX8_sums_19P w l G (QM w G WF none d' m 0 0) m o v1) (fun s x hx h1 h2 => fX8_sums_19f_ok F hX hp hx (by
    cases x with
    | inl s' => exact h1 s' rfl
    | inr z => cases h2 z rfl; exact K)) h
theorem fX8_sums_2f_ok {w : Wd} {l : Launch} {G : Cx} {m dd : Dt} {o : Int} {d' : Dt} {s : Dt × Int} {x : ((Dt × Int) ⊕ Dt)} (F : Fx w G cX8_sums RX8 3 none { frames := 0, cells := 0, slots := 0, locals := 0 }) (hX : WF dd m) (hp : PB m o 8) (h : fX8_sums_2f o s = some x) (K : (Sum.elim (fX8_sums_2P w l G (QM w G WF none d' m 0 0) m o) (fun q => q = d')) x) : V w l WF G (QM w G WF none d' m 0 0) s.1 m 0 0 2 [mA o, mI (s.2), mU] [] := by
  obtain ⟨d, v1⟩ := s
  unfold fX8_sums_2f at h
  dsimp only at h
  refine v_iload_n F dX8_sums_2 rfl rfl ?_
  refine v_aload_n F dX8_sums_3 rfl rfl ?_
  refine gf_X8_148 F dX8_sums_4 hp ?_
  refine v_icmp_ge F dX8_sums_7 rfl (fun hq1 => ?_) (fun hq1 => ?_)
  · rw [if_pos hq1] at h
    obtain ⟨z, hu, ez⟩ := up_some h
    clear h
    subst ez
    have h := hu
    clear hu
    cases h
    cases (show _ = d' from K)
    exact v_vret F dX8_sums_87
  · rw [if_neg hq1] at h
    refine v_aload_n F dX8_sums_10 rfl rfl ?_
    refine gf_X8_33 F dX8_sums_11 hp (v := (o + 126)) rfl ?_
    refine v_iload_n F dX8_sums_14 rfl rfl ?_
    refine v_lconst0 F dX8_sums_15 ?_
    obtain ⟨hi2, h⟩ := ck_some h
    obtain ⟨d3, ed3, h⟩ := sd_some h
    refine v_last F dX8_sums_16 (ar_X8_13 hX hp) hi2 ?_
    refine v_nD ed3 ?_
    refine v_iconst F dX8_sums_17 ⟨by decide, by decide⟩ ?_
    refine v_istore_n F dX8_sums_18 rfl (Nat.le_of_ble_eq_true rfl) (L' := [mA o, mI v1, mI 0]) rfl ?_
    exact fX8_sums_19_ok F hX hp h K
theorem fX8_sums_2_ok {w : Wd} {l : Launch} {G : Cx} {d m dd : Dt} {o v1 : Int} {d' : Dt} {x : Dt} (F : Fx w G cX8_sums RX8 3 none { frames := 0, cells := 0, slots := 0, locals := 0 }) (hX : WF dd m) (hp : PB m o 8) (h : fX8_sums_2 d o v1 = some x) (K : (fun q => q = d') x) : V w l WF G (QM w G WF none d' m 0 0) d m 0 0 2 [mA o, mI v1, mU] [] := by
  unfold fX8_sums_2 at h
  exact loop_ok (P := fX8_sums_2P w l G (QM w G WF none d' m 0 0) m o) (fun s x hx h1 h2 => fX8_sums_2f_ok F hX hp hx (by
    cases x with
    | inl s' => exact h1 s' rfl
    | inr z => cases h2 z rfl; exact K)) h
theorem vm_X8_sums {w : Wd} {l : Launch} {d m : Dt} {o : Int} {d' : Dt} (hp : PB m o 8) (h : fX8_sums d o = some d') : VM w l WF yX8_sums cX8_sums 3 none 0 0 0 0 d m [mA o] none d' m := by
  obtain ⟨x, h, K⟩ : ∃ x, fX8_sums d o = some x ∧ x = d' := ⟨_, h, rfl⟩
  refine VM.of (L := [mA o, mU, mU]) (by decide +kernel) rfl (Nat.le_of_ble_eq_true rfl) fun G F _ => v_fact fun _ hX _ _ => ?_
  unfold fX8_sums at h
  refine v_iconst F dX8_sums_0 ⟨by decide, by decide⟩ ?_
  refine v_istore_n F dX8_sums_1 rfl (Nat.le_of_ble_eq_true rfl) (L' := [mA o, mI 0, mU]) rfl ?_
  exact fX8_sums_2_ok F hX hp h K
def fX8_most_5P (w : Wd) (l : Launch) (G : Cx) (Q : State → Prop) (m : Dt) (d : Dt) (o a1 : Int) (s : Int × Int) : Prop := V w l WF G Q d m 0 0 5 [mA o, mL a1, mU, mI (s.1), mI (s.2), mU] []
theorem fX8_most_5f_ok {w : Wd} {l : Launch} {G : Cx} {d m dd : Dt} {o a1 : Int} {r : Int} {s : Int × Int} {x : ((Int × Int) ⊕ Int)} (F : Fx w G cX8_most RX8 6 (some .int) { frames := 1, cells := 0, slots := 0, locals := 21 }) (hX : WF dd m) (hp : PB m o 8) (h : fX8_most_5f d o a1 s = some x) (K : (Sum.elim (fX8_most_5P w l G (QM w G WF (some (mI r)) d m 0 0) m d o a1) (fun q => q = r)) x) : V w l WF G (QM w G WF (some (mI r)) d m 0 0) d m 0 0 5 [mA o, mL a1, mU, mI (s.1), mI (s.2), mU] [] := by
  obtain ⟨v3, v4⟩ := s
  unfold fX8_most_5f at h
  dsimp only at h
  refine v_iload F dX8_most_5 rfl ?_
  refine v_aload_n F dX8_most_7 rfl rfl ?_
  refine gf_X8_148 F dX8_most_8 hp ?_
  refine v_icmp_ge F dX8_most_11 rfl (fun hq1 => ?_) (fun hq1 => ?_)
  · rw [if_pos hq1] at h
    obtain ⟨z, hu, ez⟩ := up_some h
    clear h
    subst ez
    have h := hu
    clear hu
    refine v_iload_n F dX8_most_78 rfl rfl ?_
    cases h
    cases (show _ = r from K)
    exact v_iret F dX8_most_79
  · rw [if_neg hq1] at h
    refine v_aload_n F dX8_most_14 rfl rfl ?_
    obtain ⟨x2, ex2, h⟩ := lv_some h
    obtain ⟨hn4, h⟩ := ck_some h
    refine gf_X8_135 F dX8_most_15 hp ex2 fun hr3 => ?_
    have x2p := hr3.resolve_left hn4
    refine gf_X8_212 F dX8_most_18 x2p (v := (x2 + 6)) rfl ?_
    refine v_iload F dX8_most_21 rfl ?_
    obtain ⟨hi5, h⟩ := ck_some h
    refine v_iald F dX8_most_23 (ar_X9_7 hX x2p) hi5 ?_
    obtain ⟨x6, ex6, h⟩ := lv_some h
    refine v_nI ex6 ?_
    refine v_istore F dX8_most_24 (Nat.le_of_ble_eq_true rfl) (L' := [mA o, mL a1, mU, mI v3, mI v4, mI x6]) rfl ?_
    refine v_aload_n F dX8_most_26 rfl rfl ?_
    refine v_iload F dX8_most_27 rfl ?_
    obtain ⟨x7, hc8, h⟩ := b1_some h
    refine v_callVv (c := 8) F dX8_most_29 cv_X8_209 rfl (PB.ob hp hX (Nat.le_of_ble_eq_true rfl)) (Nat.le_of_ble_eq_true rfl) rfl (vm_X8_isIn hp hc8) rfl (rOk.of rfl) ?_
    refine v_if_eq F dX8_most_32 rfl (fun hq9 => ?_) (fun hq9 => ?_)
    · rw [if_pos hq9] at h
      obtain ⟨x10, ex10, h⟩ := lv_some h
      refine v_iincN F dX8_most_72 (Nat.le_of_ble_eq_true rfl) rfl ex10 (L' := [mA o, mL a1, mU, mI v3, mI x10, mI x6]) rfl ?_
      refine v_goto F dX8_most_75 rfl ?_
      cases h
      refine v_fgt (L' := [mA o, mL a1, mU, mI v3, mI x10, mU]) ⟨Or.inl rfl, Or.inl rfl, Or.inl rfl, Or.inl rfl, Or.inl rfl, Or.inr rfl, trivial⟩ ?_
      exact K
    · rw [if_neg hq9] at h
      refine v_aload_n F dX8_most_35 rfl rfl ?_
      refine gf_X8_33 F dX8_most_36 hp (v := (o + 126)) rfl ?_
      refine v_iload F dX8_most_39 rfl ?_
      obtain ⟨hi11, h⟩ := ck_some h
      refine v_lald F dX8_most_41 (ar_X8_13 hX hp) hi11 ?_
      refine v_lload_n F dX8_most_42 rfl rfl ?_
      refine v_lcmp F dX8_most_43 ?_
      refine v_if_lt F dX8_most_44 rfl (fun hq12 => ?_) (fun hq12 => ?_)
      · rw [if_pos hq12] at h
        obtain ⟨x13, ex13, h⟩ := lv_some h
        refine v_iincN F dX8_most_72 (Nat.le_of_ble_eq_true rfl) rfl ex13 (L' := [mA o, mL a1, mU, mI v3, mI x13, mI x6]) rfl ?_
        refine v_goto F dX8_most_75 rfl ?_
        cases h
        refine v_fgt (L' := [mA o, mL a1, mU, mI v3, mI x13, mU]) ⟨Or.inl rfl, Or.inl rfl, Or.inl rfl, Or.inl rfl, Or.inl rfl, Or.inr rfl, trivial⟩ ?_
        exact K
      · rw [if_neg hq12] at h
        refine v_iload_n F dX8_most_47 rfl rfl ?_
        refine v_iconst F dX8_most_48 ⟨by decide, by decide⟩ ?_
        refine v_icmp_eq F dX8_most_49 rfl (fun hq14 => ?_) (fun hq14 => ?_)
        · rw [if_pos hq14] at h
          refine v_iload F dX8_most_69 rfl ?_
          refine v_istore_n F dX8_most_71 rfl (Nat.le_of_ble_eq_true rfl) (L' := [mA o, mL a1, mU, mI x6, mI v4, mI x6]) rfl ?_
          obtain ⟨x15, ex15, h⟩ := lv_some h
          refine v_iincN F dX8_most_72 (Nat.le_of_ble_eq_true rfl) rfl ex15 (L' := [mA o, mL a1, mU, mI x6, mI x15, mI x6]) rfl ?_
          refine v_goto F dX8_most_75 rfl ?_
          cases h
          refine v_fgt (L' := [mA o, mL a1, mU, mI x6, mI x15, mU]) ⟨Or.inl rfl, Or.inl rfl, Or.inl rfl, Or.inl rfl, Or.inl rfl, Or.inr rfl, trivial⟩ ?_
          exact K
        · rw [if_neg hq14] at h
          refine v_aload_n F dX8_most_52 rfl rfl ?_
          refine gf_X8_33 F dX8_most_53 hp (v := (o + 126)) rfl ?_
          refine v_iload F dX8_most_56 rfl ?_
          refine v_lald F dX8_most_58 (ar_X8_13 hX hp) hi11 ?_
          refine v_aload_n F dX8_most_59 rfl rfl ?_
          refine gf_X8_33 F dX8_most_60 hp (v := (o + 126)) rfl ?_
          refine v_iload_n F dX8_most_63 rfl rfl ?_
          obtain ⟨hi16, h⟩ := ck_some h
          refine v_lald F dX8_most_64 (ar_X8_13 hX hp) hi16 ?_
          refine v_lcmp F dX8_most_65 ?_
          refine v_if_le F dX8_most_66 rfl (fun hq17 => ?_) (fun hq17 => ?_)
          · rw [if_pos hq17] at h
            obtain ⟨x18, ex18, h⟩ := lv_some h
            refine v_iincN F dX8_most_72 (Nat.le_of_ble_eq_true rfl) rfl ex18 (L' := [mA o, mL a1, mU, mI v3, mI x18, mI x6]) rfl ?_
            refine v_goto F dX8_most_75 rfl ?_
            cases h
            refine v_fgt (L' := [mA o, mL a1, mU, mI v3, mI x18, mU]) ⟨Or.inl rfl, Or.inl rfl, Or.inl rfl, Or.inl rfl, Or.inl rfl, Or.inr rfl, trivial⟩ ?_
            exact K
          · rw [if_neg hq17] at h
            refine v_iload F dX8_most_69 rfl ?_
            refine v_istore_n F dX8_most_71 rfl (Nat.le_of_ble_eq_true rfl) (L' := [mA o, mL a1, mU, mI x6, mI v4, mI x6]) rfl ?_
            obtain ⟨x19, ex19, h⟩ := lv_some h
            refine v_iincN F dX8_most_72 (Nat.le_of_ble_eq_true rfl) rfl ex19 (L' := [mA o, mL a1, mU, mI x6, mI x19, mI x6]) rfl ?_
            refine v_goto F dX8_most_75 rfl ?_
            cases h
            refine v_fgt (L' := [mA o, mL a1, mU, mI x6, mI x19, mU]) ⟨Or.inl rfl, Or.inl rfl, Or.inl rfl, Or.inl rfl, Or.inl rfl, Or.inr rfl, trivial⟩ ?_
            exact K
theorem fX8_most_5_ok {w : Wd} {l : Launch} {G : Cx} {d m dd : Dt} {o a1 v3 v4 : Int} {r : Int} {x : Int} (F : Fx w G cX8_most RX8 6 (some .int) { frames := 1, cells := 0, slots := 0, locals := 21 }) (hX : WF dd m) (hp : PB m o 8) (h : fX8_most_5 d o a1 v3 v4 = some x) (K : (fun q => q = r) x) : V w l WF G (QM w G WF (some (mI r)) d m 0 0) d m 0 0 5 [mA o, mL a1, mU, mI v3, mI v4, mU] [] := by
  unfold fX8_most_5 at h
  exact loop_ok (P := fX8_most_5P w l G (QM w G WF (some (mI r)) d m 0 0) m d o a1) (fun s x hx h1 h2 => fX8_most_5f_ok F hX hp hx (by
    cases x with
    | inl s' => exact h1 s' rfl
    | inr z => cases h2 z rfl; exact K)) h
theorem vm_X8_most {w : Wd} {l : Launch} {d m : Dt} {o a1 : Int} {r : Int} (hp : PB m o 8) (h : fX8_most d o a1 = some r) : VM w l WF yX8_most cX8_most 6 (some .int) 1 21 0 0 d m [mA o, mL a1] (some (mI r)) d m := by
  obtain ⟨x, h, K⟩ : ∃ x, fX8_most d o a1 = some x ∧ x = r := ⟨_, h, rfl⟩
  refine VM.of (L := [mA o, mL a1, mU, mU, mU, mU]) (by decide +kernel) rfl (Nat.le_of_ble_eq_true rfl) fun G F _ => v_fact fun _ hX _ _ => ?_
  unfold fX8_most at h
  refine v_iconst F dX8_most_0 ⟨by decide, by decide⟩ ?_
  refine v_istore_n F dX8_most_1 rfl (Nat.le_of_ble_eq_true rfl) (L' := [mA o, mL a1, mU, mI (-1), mU, mU]) rfl ?_
  refine v_iconst F dX8_most_2 ⟨by decide, by decide⟩ ?_
  refine v_istore F dX8_most_3 (Nat.le_of_ble_eq_true rfl) (L' := [mA o, mL a1, mU, mI (-1), mI 0, mU]) rfl ?_
  exact fX8_most_5_ok F hX hp h K
def fX8_electAll_9P (w : Wd) (l : Launch) (G : Cx) (Q : State → Prop) (m : Dt) (o a1 : Int) (s : Dt × Int × Int) : Prop := V w l WF G Q s.1 m 0 0 9 [mA o, mL a1, mU, mI (s.2.1), mI (s.2.2)] []
theorem fX8_electAll_9f_ok {w : Wd} {l : Launch} {G : Cx} {m dd : Dt} {o a1 : Int} {d' : Dt} {r : Int} {s : Dt × Int × Int} {x : ((Dt × Int × Int) ⊕ (Dt × Int))} (F : Fx w G cX8_electAll RX8 5 (some .boolean) { frames := 2, cells := 0, slots := 0, locals := 46 }) (hX : WF dd m) (hp : PB m o 8) (h : fX8_electAll_9f o a1 s = some x) (K : (Sum.elim (fX8_electAll_9P w l G (QM w G WF (some (mI r)) d' m 0 0) m o a1) (fun q => q = (d', r))) x) : V w l WF G (QM w G WF (some (mI r)) d' m 0 0) s.1 m 0 0 9 [mA o, mL a1, mU, mI (s.2.1), mI (s.2.2)] [] := by
  obtain ⟨d, v3, v4⟩ := s
  unfold fX8_electAll_9f at h
  dsimp only at h
  refine v_iload F dX8_electAll_9 rfl ?_
  refine v_iconst F dX8_electAll_11 ⟨by decide, by decide⟩ ?_
  refine v_icmp_eq F dX8_electAll_12 rfl (fun hq3 => ?_) (fun hq3 => ?_)
  · rw [if_pos hq3] at h
    obtain ⟨z, hu, ez⟩ := up_some h
    clear h
    subst ez
    have h := hu
    clear hu
    refine v_iload_n F dX8_electAll_47 rfl rfl ?_
    obtain ⟨hb, h⟩ := ck_some h
    cases h
    cases (show _ = (d', r) from K)
    exact v_zret F hb dX8_electAll_48
  · rw [if_neg hq3] at h
    refine v_aload_n F dX8_electAll_15 rfl rfl ?_
    refine gf_X8_167 F dX8_electAll_16 hp ?_
    refine v_aload_n F dX8_electAll_19 rfl rfl ?_
    obtain ⟨x4, ex4, h⟩ := lv_some h
    obtain ⟨hn6, h⟩ := ck_some h
    refine gf_X8_131 F dX8_electAll_20 hp ex4 fun hr5 => ?_
    have x4p := hr5.resolve_left hn6
    refine gf_X8_185 F dX8_electAll_23 x4p ?_
    refine v_icmp_ge F dX8_electAll_26 rfl (fun hq7 => ?_) (fun hq7 => ?_)
    · rw [if_pos hq7] at h
      obtain ⟨z, hu, ez⟩ := up_some h
      clear h
      subst ez
      have h := hu
      clear hu
      refine v_iload_n F dX8_electAll_47 rfl rfl ?_
      obtain ⟨hb, h⟩ := ck_some h
      cases h
      cases (show _ = (d', r) from K)
      exact v_zret F hb dX8_electAll_48
    · rw [if_neg hq7] at h
      refine v_aload_n F dX8_electAll_29 rfl rfl ?_
      refine v_iload F dX8_electAll_30 rfl ?_
      obtain ⟨d8, hc9, h⟩ := bd_some h
      refine v_callV0 (c := 8) F dX8_electAll_32 cv_X8_219 rfl (PB.ob hp hX (Nat.le_of_ble_eq_true rfl)) (Nat.le_of_ble_eq_true rfl) rfl (vm_X8_elect hp hc9) rfl (rOk.of rfl) ?_
      refine v_iconst F dX8_electAll_35 ⟨by decide, by decide⟩ ?_
      refine v_istore_n F dX8_electAll_36 rfl (Nat.le_of_ble_eq_true rfl) (L' := [mA o, mL a1, mU, mI 1, mI v4]) rfl ?_
      refine v_aload_n F dX8_electAll_37 rfl rfl ?_
      refine v_lload_n F dX8_electAll_38 rfl rfl ?_
      obtain ⟨x10, hc11, h⟩ := b1_some h
      refine v_callVv (c := 8) F dX8_electAll_39 cv_X8_215 rfl (PB.ob hp hX (Nat.le_of_ble_eq_true rfl)) (Nat.le_of_ble_eq_true rfl) rfl (vm_X8_most hp hc11) rfl (rOk.of rfl) ?_
      refine v_istore F dX8_electAll_42 (Nat.le_of_ble_eq_true rfl) (L' := [mA o, mL a1, mU, mI 1, mI x10]) rfl ?_
      refine v_goto F dX8_electAll_44 rfl ?_
      cases h
      exact K
theorem fX8_electAll_9_ok {w : Wd} {l : Launch} {G : Cx} {d m dd : Dt} {o a1 v3 v4 : Int} {d' : Dt} {r : Int} {x : (Dt × Int)} (F : Fx w G cX8_electAll RX8 5 (some .boolean) { frames := 2, cells := 0, slots := 0, locals := 46 }) (hX : WF dd m) (hp : PB m o 8) (h : fX8_electAll_9 d o a1 v3 v4 = some x) (K : (fun q => q = (d', r)) x) : V w l WF G (QM w G WF (some (mI r)) d' m 0 0) d m 0 0 9 [mA o, mL a1, mU, mI v3, mI v4] [] := by
  unfold fX8_electAll_9 at h
  exact loop_ok (P := fX8_electAll_9P w l G (QM w G WF (some (mI r)) d' m 0 0) m o a1) (fun s x hx h1 h2 => fX8_electAll_9f_ok F hX hp hx (by
    cases x with
    | inl s' => exact h1 s' rfl
    | inr z => cases h2 z rfl; exact K)) h
theorem vm_X8_electAll {w : Wd} {l : Launch} {d m : Dt} {o a1 : Int} {d' : Dt} {r : Int} (hp : PB m o 8) (h : fX8_electAll d o a1 = some (d', r)) : VM w l WF yX8_electAll cX8_electAll 5 (some .boolean) 2 46 0 0 d m [mA o, mL a1] (some (mI r)) d' m := by
  obtain ⟨x, h, K⟩ : ∃ x, fX8_electAll d o a1 = some x ∧ x = (d', r) := ⟨_, h, rfl⟩
  refine VM.of (L := [mA o, mL a1, mU, mU, mU]) (by decide +kernel) rfl (Nat.le_of_ble_eq_true rfl) fun G F _ => v_fact fun _ hX _ _ => ?_
  unfold fX8_electAll at h
  refine v_iconst F dX8_electAll_0 ⟨by decide, by decide⟩ ?_
  refine v_istore_n F dX8_electAll_1 rfl (Nat.le_of_ble_eq_true rfl) (L' := [mA o, mL a1, mU, mI 0, mU]) rfl ?_
  refine v_aload_n F dX8_electAll_2 rfl rfl ?_
  refine v_lload_n F dX8_electAll_3 rfl rfl ?_
  obtain ⟨x1, hc2, h⟩ := b1_some h
  refine v_callVv (c := 8) F dX8_electAll_4 cv_X8_215 rfl (PB.ob hp hX (Nat.le_of_ble_eq_true rfl)) (Nat.le_of_ble_eq_true rfl) rfl (vm_X8_most hp hc2) rfl (rOk.of rfl) ?_
  refine v_istore F dX8_electAll_7 (Nat.le_of_ble_eq_true rfl) (L' := [mA o, mL a1, mU, mI 0, mI x1]) rfl ?_
  exact fX8_electAll_9_ok F hX hp h K
theorem fX8_bySums_22_ok {w : Wd} {l : Launch} {G : Cx} {d m dd : Dt} {o : Int} {d' : Dt} {x : Dt} (F : Fx w G cX8_bySums RX8 2 none { frames := 3, cells := 0, slots := 0, locals := 83 }) (hX : WF dd m) (hp : PB m o 8) (h : fX8_bySums_22 d o = some x) (K : (fun q => q = d') x) : V w l WF G (QM w G WF none d' m 0 0) d m 0 0 22 [mA o, mU] [] := by
  unfold fX8_bySums_22 at h
  refine v_aload_n F dX8_bySums_22 rfl rfl ?_
  obtain ⟨d7, hc8, h⟩ := bd_some h
  refine v_callV0 (c := 8) F dX8_bySums_23 cv_X8_254 rfl (PB.ob hp hX (Nat.le_of_ble_eq_true rfl)) (Nat.le_of_ble_eq_true rfl) rfl (vm_X8_tell hp hc8) rfl (rOk.of rfl) ?_
  refine v_aload_n F dX8_bySums_26 rfl rfl ?_
  refine v_lconst0 F dX8_bySums_27 ?_
  obtain ⟨d9, x11, hc10, h⟩ := b2_some h
  refine v_callVv (c := 8) F dX8_bySums_28 cv_X8_227 rfl (PB.ob hp hX (Nat.le_of_ble_eq_true rfl)) (Nat.le_of_ble_eq_true rfl) rfl (vm_X8_electAll hp hc10) rfl (rOk.of rfl) ?_
  refine v_istore_n F dX8_bySums_31 rfl (Nat.le_of_ble_eq_true rfl) (L' := [mA o, mI x11]) rfl ?_
  cases h
  cases (show _ = d' from K)
  exact v_vret F dX8_bySums_32
theorem vm_X8_bySums {w : Wd} {l : Launch} {d m : Dt} {o : Int} {d' : Dt} (hp : PB m o 8) (h : fX8_bySums d o = some d') : VM w l WF yX8_bySums cX8_bySums 2 none 3 83 0 0 d m [mA o] none d' m := by
  obtain ⟨x, h, K⟩ : ∃ x, fX8_bySums d o = some x ∧ x = d' := ⟨_, h, rfl⟩
  refine VM.of (L := [mA o, mU]) (by decide +kernel) rfl (Nat.le_of_ble_eq_true rfl) fun G F _ => v_fact fun _ hX _ _ => ?_
  unfold fX8_bySums at h
  refine v_aload_n F dX8_bySums_0 rfl rfl ?_
  obtain ⟨x1, ex1, h⟩ := lv_some h
  obtain ⟨hn3, h⟩ := ck_some h
  refine gf_X8_131 F dX8_bySums_1 hp ex1 fun hr2 => ?_
  have x1p := hr2.resolve_left hn3
  refine gf_X8_180 F dX8_bySums_4 x1p ?_
  refine v_iconst F dX8_bySums_7 ⟨by decide, by decide⟩ ?_
  refine v_icmp_ne F dX8_bySums_8 rfl (fun hq4 => ?_) (fun hq4 => ?_)
  · rw [if_neg hq4] at h
    refine v_aload_n F dX8_bySums_18 rfl rfl ?_
    obtain ⟨d5, hc6, h⟩ := bd_some h
    refine v_callV0 (c := 8) F dX8_bySums_19 cv_X8_251 rfl (PB.ob hp hX (Nat.le_of_ble_eq_true rfl)) (Nat.le_of_ble_eq_true rfl) rfl (vm_X8_sums hp hc6) rfl (rOk.of rfl) ?_
    exact fX8_bySums_22_ok F hX hp h K
  · rw [if_pos hq4] at h
    refine v_aload_n F dX8_bySums_11 rfl rfl ?_
    obtain ⟨d12, hc13, h⟩ := bd_some h
    refine v_callV0 (c := 8) F dX8_bySums_12 cv_X8_248 rfl (PB.ob hp hX (Nat.le_of_ble_eq_true rfl)) (Nat.le_of_ble_eq_true rfl) rfl (vm_X8_places hp hc13) rfl (rOk.of rfl) ?_
    refine v_goto F dX8_bySums_15 rfl ?_
    exact fX8_bySums_22_ok F hX hp h K
def fX8_sortMarks_2P (w : Wd) (l : Launch) (G : Cx) (Q : State → Prop) (m : Dt) (o a1 : Int) (s : Dt × Int) : Prop := V w l WF G Q s.1 m 0 0 2 [mA o, mI a1, mI (s.2), mU] []
def fX8_sortMarks_12P (w : Wd) (l : Launch) (G : Cx) (Q : State → Prop) (m : Dt) (o a1 v2 : Int) (s : Dt × Int) : Prop := V w l WF G Q s.1 m 0 0 12 [mA o, mI a1, mI v2, mI (s.2)] []
theorem fX8_sortMarks_61_ok {w : Wd} {l : Launch} {G : Cx} {d m dd : Dt} {o a1 v2 v3 : Int} {d' : Dt} {x : ((Dt × Int) ⊕ Dt)} (F : Fx w G cX8_sortMarks RX8 4 none { frames := 0, cells := 0, slots := 0, locals := 0 }) (hX : WF dd m) (hp : PB m o 8) (h : fX8_sortMarks_61 d o a1 v2 v3 = some x) (K : (Sum.elim (fX8_sortMarks_2P w l G (QM w G WF none d' m 0 0) m o a1) (fun q => q = d')) x) : V w l WF G (QM w G WF none d' m 0 0) d m 0 0 61 [mA o, mI a1, mI v2, mI v3] [] := by
  unfold fX8_sortMarks_61 at h
  refine v_aload_n F dX8_sortMarks_61 rfl rfl ?_
  refine gf_X8_57 F dX8_sortMarks_62 hp (v := (o + 173)) rfl ?_
  refine v_iload_n F dX8_sortMarks_65 rfl rfl ?_
  obtain ⟨hi3, h⟩ := ck_some h
  refine v_aaldF (c := 8) (k := 23) F dX8_sortMarks_66 hp (Nat.le_of_ble_eq_true rfl) (Nat.le_of_ble_eq_true rfl) (by decide) (by decide) rfl (ar_X8_23 hX hp) (Nat.le_of_ble_eq_true rfl) rfl rfl rfl rfl hi3 (v := ((o + 174) + a1)) (by show o + 174 + 1 * a1 = _; omega) ?_
  refine v_iload_n F dX8_sortMarks_67 rfl rfl ?_
  refine v_aload_n F dX8_sortMarks_68 rfl rfl ?_
  refine gf_X8_17 F dX8_sortMarks_69 hp (v := (o + 2)) rfl ?_
  refine v_iload_n F dX8_sortMarks_72 rfl rfl ?_
  obtain ⟨hi4, h⟩ := ck_some h
  refine v_aaldF (c := 8) (k := 6) F dX8_sortMarks_73 hp (Nat.le_of_ble_eq_true rfl) (Nat.le_of_ble_eq_true rfl) (by decide) (by decide) rfl (ar_X8_6 hX hp) (Nat.le_of_ble_eq_true rfl) rfl rfl rfl rfl hi4 (v := ((o + 3) + v2)) (by show o + 3 + 1 * v2 = _; omega) ?_
  refine v_iload_n F dX8_sortMarks_74 rfl rfl ?_
  refine v_bald F dX8_sortMarks_75 (ae_X8_6 (i := v2) hX hp hi4 (v := ((o + 3) + v2)) (by omega)) hi3 ?_
  obtain ⟨hi5, h⟩ := ck_some h
  obtain ⟨d6, ed6, h⟩ := sd_some h
  refine v_bast F dX8_sortMarks_76 (ae_X8_23 (i := a1) hX hp hi3 (v := ((o + 174) + a1)) (by omega)) hi5 ?_
  refine v_nD ed6 ?_
  obtain ⟨x7, ex7, h⟩ := lv_some h
  refine v_iincN F dX8_sortMarks_77 (Nat.le_of_ble_eq_true rfl) rfl ex7 (L' := [mA o, mI a1, mI x7, mI v3]) rfl ?_
  refine v_goto F dX8_sortMarks_80 rfl ?_
  cases h
  refine v_fgt (L' := [mA o, mI a1, mI x7, mU]) ⟨Or.inl rfl, Or.inl rfl, Or.inl rfl, Or.inr rfl, trivial⟩ ?_
  exact K
theorem fX8_sortMarks_12f_ok {w : Wd} {l : Launch} {G : Cx} {m dd : Dt} {o a1 v2 : Int} {d' : Dt} {s : Dt × Int} {x : ((Dt × Int) ⊕ ((Dt × Int) ⊕ Dt))} (F : Fx w G cX8_sortMarks RX8 4 none { frames := 0, cells := 0, slots := 0, locals := 0 }) (hX : WF dd m) (hp : PB m o 8) (h : fX8_sortMarks_12f o a1 v2 s = some x) (K : (Sum.elim (fX8_sortMarks_12P w l G (QM w G WF none d' m 0 0) m o a1 v2) (Sum.elim (fX8_sortMarks_2P w l G (QM w G WF none d' m 0 0) m o a1) (fun q => q = d'))) x) : V w l WF G (QM w G WF none d' m 0 0) s.1 m 0 0 12 [mA o, mI a1, mI v2, mI (s.2)] [] := by
  obtain ⟨d, v3⟩ := s
  unfold fX8_sortMarks_12f at h
  dsimp only at h
  refine v_iload_n F dX8_sortMarks_12 rfl rfl ?_
  refine v_if_le F dX8_sortMarks_13 rfl (fun hq2 => ?_) (fun hq2 => ?_)
  · rw [if_pos hq2] at h
    obtain ⟨z, hu, ez⟩ := up_some h
    clear h
    subst ez
    have h := hu
    clear hu
    exact fX8_sortMarks_61_ok F hX hp h K
  · rw [if_neg hq2] at h
    refine v_aload_n F dX8_sortMarks_16 rfl rfl ?_
    refine gf_X8_57 F dX8_sortMarks_17 hp (v := (o + 173)) rfl ?_
    refine v_iload_n F dX8_sortMarks_20 rfl rfl ?_
    obtain ⟨hi8, h⟩ := ck_some h
    refine v_aaldF (c := 8) (k := 23) F dX8_sortMarks_21 hp (Nat.le_of_ble_eq_true rfl) (Nat.le_of_ble_eq_true rfl) (by decide) (by decide) rfl (ar_X8_23 hX hp) (Nat.le_of_ble_eq_true rfl) rfl rfl rfl rfl hi8 (v := ((o + 174) + a1)) (by show o + 174 + 1 * a1 = _; omega) ?_
    refine v_iload_n F dX8_sortMarks_22 rfl rfl ?_
    refine v_iconst F dX8_sortMarks_23 ⟨by decide, by decide⟩ ?_
    refine v_isub F dX8_sortMarks_24 ?_
    obtain ⟨x9, ex9, h⟩ := lv_some h
    refine v_nI ex9 ?_
    obtain ⟨hi10, h⟩ := ck_some h
    refine v_bald F dX8_sortMarks_25 (ae_X8_23 (i := a1) hX hp hi8 (v := ((o + 174) + a1)) (by omega)) hi10 ?_
    refine v_aload_n F dX8_sortMarks_26 rfl rfl ?_
    refine gf_X8_17 F dX8_sortMarks_27 hp (v := (o + 2)) rfl ?_
    refine v_iload_n F dX8_sortMarks_30 rfl rfl ?_
    obtain ⟨hi11, h⟩ := ck_some h
    refine v_aaldF (c := 8) (k := 6) F dX8_sortMarks_31 hp (Nat.le_of_ble_eq_true rfl) (Nat.le_of_ble_eq_true rfl) (by decide) (by decide) rfl (ar_X8_6 hX hp) (Nat.le_of_ble_eq_true rfl) rfl rfl rfl rfl hi11 (v := ((o + 3) + v2)) (by show o + 3 + 1 * v2 = _; omega) ?_
    refine v_iload_n F dX8_sortMarks_32 rfl rfl ?_
    refine v_bald F dX8_sortMarks_33 (ae_X8_6 (i := v2) hX hp hi11 (v := ((o + 3) + v2)) (by omega)) hi8 ?_
    refine v_icmp_ge F dX8_sortMarks_34 rfl (fun hq12 => ?_) (fun hq12 => ?_)
    · rw [if_pos hq12] at h
      obtain ⟨z, hu, ez⟩ := up_some h
      clear h
      subst ez
      have h := hu
      clear hu
      exact fX8_sortMarks_61_ok F hX hp h K
    · rw [if_neg hq12] at h
      refine v_aload_n F dX8_sortMarks_37 rfl rfl ?_
      refine gf_X8_57 F dX8_sortMarks_38 hp (v := (o + 173)) rfl ?_
      refine v_iload_n F dX8_sortMarks_41 rfl rfl ?_
      refine v_aaldF (c := 8) (k := 23) F dX8_sortMarks_42 hp (Nat.le_of_ble_eq_true rfl) (Nat.le_of_ble_eq_true rfl) (by decide) (by decide) rfl (ar_X8_23 hX hp) (Nat.le_of_ble_eq_true rfl) rfl rfl rfl rfl hi8 (v := ((o + 174) + a1)) (by show o + 174 + 1 * a1 = _; omega) ?_
      refine v_iload_n F dX8_sortMarks_43 rfl rfl ?_
      refine v_aload_n F dX8_sortMarks_44 rfl rfl ?_
      refine gf_X8_57 F dX8_sortMarks_45 hp (v := (o + 173)) rfl ?_
      refine v_iload_n F dX8_sortMarks_48 rfl rfl ?_
      refine v_aaldF (c := 8) (k := 23) F dX8_sortMarks_49 hp (Nat.le_of_ble_eq_true rfl) (Nat.le_of_ble_eq_true rfl) (by decide) (by decide) rfl (ar_X8_23 hX hp) (Nat.le_of_ble_eq_true rfl) rfl rfl rfl rfl hi8 (v := ((o + 174) + a1)) (by show o + 174 + 1 * a1 = _; omega) ?_
      refine v_iload_n F dX8_sortMarks_50 rfl rfl ?_
      refine v_iconst F dX8_sortMarks_51 ⟨by decide, by decide⟩ ?_
      refine v_isub F dX8_sortMarks_52 ?_
      obtain ⟨x13, ex13, h⟩ := lv_some h
      refine v_nI ex13 ?_
      obtain ⟨hi14, h⟩ := ck_some h
      refine v_bald F dX8_sortMarks_53 (ae_X8_23 (i := a1) hX hp hi8 (v := ((o + 174) + a1)) (by omega)) hi14 ?_
      obtain ⟨hi15, h⟩ := ck_some h
      obtain ⟨d16, ed16, h⟩ := sd_some h
      refine v_bast F dX8_sortMarks_54 (ae_X8_23 (i := a1) hX hp hi8 (v := ((o + 174) + a1)) (by omega)) hi15 ?_
      refine v_nD ed16 ?_
      obtain ⟨x17, ex17, h⟩ := lv_some h
      refine v_iincN F dX8_sortMarks_55 (Nat.le_of_ble_eq_true rfl) rfl ex17 (L' := [mA o, mI a1, mI v2, mI x17]) rfl ?_
      refine v_goto F dX8_sortMarks_58 rfl ?_
      cases h
      exact K
theorem fX8_sortMarks_12_ok {w : Wd} {l : Launch} {G : Cx} {d m dd : Dt} {o a1 v2 v3 : Int} {d' : Dt} {x : ((Dt × Int) ⊕ Dt)} (F : Fx w G cX8_sortMarks RX8 4 none { frames := 0, cells := 0, slots := 0, locals := 0 }) (hX : WF dd m) (hp : PB m o 8) (h : fX8_sortMarks_12 d o a1 v2 v3 = some x) (K : (Sum.elim (fX8_sortMarks_2P w l G (QM w G WF none d' m 0 0) m o a1) (fun q => q = d')) x) : V w l WF G (QM w G WF none d' m 0 0) d m 0 0 12 [mA o, mI a1, mI v2, mI v3] [] := by
  unfold fX8_sortMarks_12 at h
  exact loop_ok (P := fX8_sortMarks_12P w l G (QM w G WF none d' m 0 0) m o a1 v2) (fun s x hx h1 h2 => fX8_sortMarks_12f_ok F hX hp hx (by
    cases x with
    | inl s' => exact h1 s' rfl
    | inr z => cases h2 z rfl; exact K)) h
theorem fX8_sortMarks_2f_ok {w : Wd} {l : Launch} {G : Cx} {m dd : Dt} {o a1 : Int} {d' : Dt} {s : Dt × Int} {x : ((Dt × Int) ⊕ Dt)} (F : Fx w G cX8_sortMarks RX8 4 none { frames := 0, cells := 0, slots := 0, locals := 0 }) (hX : WF dd m) (hp : PB m o 8) (h : fX8_sortMarks_2f o a1 s = some x) (K : (Sum.elim (fX8_sortMarks_2P w l G (QM w G WF none d' m 0 0) m o a1) (fun q => q = d')) x) : V w l WF G (QM w G WF none d' m 0 0) s.1 m 0 0 2 [mA o, mI a1, mI (s.2), mU] [] := by
  obtain ⟨d, v2⟩ := s
  unfold fX8_sortMarks_2f at h
  dsimp only at h
  refine v_iload_n F dX8_sortMarks_2 rfl rfl ?_
  refine v_aload_n F dX8_sortMarks_3 rfl rfl ?_
  refine gf_X8_155 F dX8_sortMarks_4 hp ?_
  refine v_icmp_ge F dX8_sortMarks_7 rfl (fun hq1 => ?_) (fun hq1 => ?_)
  · rw [if_pos hq1] at h
    obtain ⟨z, hu, ez⟩ := up_some h
    clear h
    subst ez
    have h := hu
    clear hu
    cases h
    cases (show _ = d' from K)
    exact v_vret F dX8_sortMarks_83
  · rw [if_neg hq1] at h
    refine v_iload_n F dX8_sortMarks_10 rfl rfl ?_
    refine v_istore_n F dX8_sortMarks_11 rfl (Nat.le_of_ble_eq_true rfl) (L' := [mA o, mI a1, mI v2, mI v2]) rfl ?_
    exact fX8_sortMarks_12_ok F hX hp h K
theorem fX8_sortMarks_2_ok {w : Wd} {l : Launch} {G : Cx} {d m dd : Dt} {o a1 v2 : Int} {d' : Dt} {x : Dt} (F : Fx w G cX8_sortMarks RX8 4 none { frames := 0, cells := 0, slots := 0, locals := 0 }) (hX : WF dd m) (hp : PB m o 8) (h : fX8_sortMarks_2 d o a1 v2 = some x) (K : (fun q => q = d') x) : V w l WF G (QM w G WF none d' m 0 0) d m 0 0 2 [mA o, mI a1, mI v2, mU] [] := by
  unfold fX8_sortMarks_2 at h
  exact loop_ok (P := fX8_sortMarks_2P w l G (QM w G WF none d' m 0 0) m o a1) (fun s x hx h1 h2 => fX8_sortMarks_2f_ok F hX hp hx (by
    cases x with
    | inl s' => exact h1 s' rfl
    | inr z => cases h2 z rfl; exact K)) h
theorem vm_X8_sortMarks {w : Wd} {l : Launch} {d m : Dt} {o a1 : Int} {d' : Dt} (hp : PB m o 8) (h : fX8_sortMarks d o a1 = some d') : VM w l WF yX8_sortMarks cX8_sortMarks 4 none 0 0 0 0 d m [mA o, mI a1] none d' m := by
  obtain ⟨x, h, K⟩ : ∃ x, fX8_sortMarks d o a1 = some x ∧ x = d' := ⟨_, h, rfl⟩
  refine VM.of (L := [mA o, mI a1, mU, mU]) (by decide +kernel) rfl (Nat.le_of_ble_eq_true rfl) fun G F _ => v_fact fun _ hX _ _ => ?_
  unfold fX8_sortMarks at h
  refine v_iconst F dX8_sortMarks_0 ⟨by decide, by decide⟩ ?_
  refine v_istore_n F dX8_sortMarks_1 rfl (Nat.le_of_ble_eq_true rfl) (L' := [mA o, mI a1, mI 0, mU]) rfl ?_
  exact fX8_sortMarks_2_ok F hX hp h K
def fX8_isGraded_43P (w : Wd) (l : Launch) (G : Cx) (Q : State → Prop) (m : Dt) (o a1 a2 : Int) (s : Dt × Int) : Prop := V w l WF G Q s.1 m 0 0 43 [mA o, mU, mU, mI (s.2), mU] []
theorem fX8_isGraded_43f_ok {w : Wd} {l : Launch} {G : Cx} {m dd : Dt} {o a1 a2 : Int} {d' : Dt} {r : Int} {s : Dt × Int} {x : ((Dt × Int) ⊕ (Dt × Int))} (F : Fx w G cX8_isGraded RX8 5 (some .boolean) { frames := 1, cells := 0, slots := 0, locals := 40 }) (hX : WF dd m) (hp : PB m o 8) (h : fX8_isGraded_43f o a1 a2 s = some x) (K : (Sum.elim (fX8_isGraded_43P w l G (QM w G WF (some (mI r)) d' m 0 0) m o a1 a2) (fun q => q = (d', r))) x) : V w l WF G (QM w G WF (some (mI r)) d' m 0 0) s.1 m 0 0 43 [mA o, mU, mU, mI (s.2), mU] [] := by
  obtain ⟨d, v3⟩ := s
  unfold fX8_isGraded_43f at h
  dsimp only at h
  refine v_iload_n F dX8_isGraded_43 rfl rfl ?_
  refine v_if_le F dX8_isGraded_44 rfl (fun hq10 => ?_) (fun hq10 => ?_)
  · rw [if_pos hq10] at h
    obtain ⟨z, hu, ez⟩ := up_some h
    clear h
    subst ez
    have h := hu
    clear hu
    refine v_iconst F dX8_isGraded_144 ⟨by decide, by decide⟩ ?_
    cases h
    cases (show _ = (d', r) from K)
    exact v_zret F (Or.inl rfl) dX8_isGraded_145
  · rw [if_neg hq10] at h
    refine v_iload_n F dX8_isGraded_47 rfl rfl ?_
    refine v_iconst F dX8_isGraded_48 ⟨by decide, by decide⟩ ?_
    refine v_idiv F dX8_isGraded_49 (by decide) ?_
    obtain ⟨x11, ex11, h⟩ := lv_some h
    refine v_nI ex11 ?_
    refine v_istore F dX8_isGraded_50 (Nat.le_of_ble_eq_true rfl) (L' := [mA o, mU, mU, mI v3, mI x11]) rfl ?_
    refine v_aload_n F dX8_isGraded_52 rfl rfl ?_
    refine gf_X8_60 F dX8_isGraded_53 hp (v := (o + 183)) rfl ?_
    refine v_iload F dX8_isGraded_56 rfl ?_
    obtain ⟨hi12, h⟩ := ck_some h
    refine v_bald F dX8_isGraded_58 (ar_X8_24 hX hp) hi12 ?_
    refine v_aload_n F dX8_isGraded_59 rfl rfl ?_
    refine gf_X8_63 F dX8_isGraded_60 hp (v := (o + 184)) rfl ?_
    refine v_iload F dX8_isGraded_63 rfl ?_
    refine v_bald F dX8_isGraded_65 (ar_X8_25 hX hp) hi12 ?_
    refine v_icmp_eq F dX8_isGraded_66 rfl (fun hq13 => ?_) (fun hq13 => ?_)
    · rw [if_pos hq13] at h
      refine v_aload_n F dX8_isGraded_92 rfl rfl ?_
      refine gf_X8_60 F dX8_isGraded_93 hp (v := (o + 183)) rfl ?_
      refine v_iload F dX8_isGraded_96 rfl ?_
      refine v_iconst F dX8_isGraded_98 ⟨by decide, by decide⟩ ?_
      refine v_iadd F dX8_isGraded_99 ?_
      refine v_aload_n F dX8_isGraded_100 rfl rfl ?_
      refine gf_X8_60 F dX8_isGraded_101 hp (v := (o + 183)) rfl ?_
      refine v_iload F dX8_isGraded_104 rfl ?_
      refine v_iload_n F dX8_isGraded_106 rfl rfl ?_
      refine v_iload F dX8_isGraded_107 rfl ?_
      refine v_isub F dX8_isGraded_109 ?_
      refine v_iconst F dX8_isGraded_110 ⟨by decide, by decide⟩ ?_
      refine v_isub F dX8_isGraded_111 ?_
      obtain ⟨x14, ex14, h⟩ := lv_some h
      refine v_nI ex14 ?_
      obtain ⟨x15, ex15, h⟩ := lv_some h
      refine v_n4 ex15 ?_
      obtain ⟨hi17, h⟩ := ck_some h
      obtain ⟨d16, ed16, h⟩ := cd_some h
      refine v_copy (t := 102) F dX8_isGraded_112 ca_X8_203 (ar_X8_24 hX hp) (ar_X8_24 hX hp) (Nat.le_of_ble_eq_true rfl) (Or.inr (Or.inl rfl)) rfl rfl hi17 rfl ?_
      refine v_nD ed16 ?_
      refine v_aload_n F dX8_isGraded_115 rfl rfl ?_
      refine gf_X8_63 F dX8_isGraded_116 hp (v := (o + 184)) rfl ?_
      refine v_iload F dX8_isGraded_119 rfl ?_
      refine v_iconst F dX8_isGraded_121 ⟨by decide, by decide⟩ ?_
      refine v_iadd F dX8_isGraded_122 ?_
      refine v_aload_n F dX8_isGraded_123 rfl rfl ?_
      refine gf_X8_63 F dX8_isGraded_124 hp (v := (o + 184)) rfl ?_
      refine v_iload F dX8_isGraded_127 rfl ?_
      refine v_iload_n F dX8_isGraded_129 rfl rfl ?_
      refine v_iload F dX8_isGraded_130 rfl ?_
      refine v_isub F dX8_isGraded_132 ?_
      refine v_iconst F dX8_isGraded_133 ⟨by decide, by decide⟩ ?_
      refine v_isub F dX8_isGraded_134 ?_
      obtain ⟨x18, ex18, h⟩ := lv_some h
      refine v_nI ex18 ?_
      obtain ⟨x19, ex19, h⟩ := lv_some h
      refine v_n4 ex19 ?_
      obtain ⟨hi21, h⟩ := ck_some h
      obtain ⟨d20, ed20, h⟩ := cd_some h
      refine v_copy (t := 102) F dX8_isGraded_135 ca_X8_203 (ar_X8_25 hX hp) (ar_X8_25 hX hp) (Nat.le_of_ble_eq_true rfl) (Or.inr (Or.inl rfl)) rfl rfl hi21 rfl ?_
      refine v_nD ed20 ?_
      obtain ⟨x22, ex22, h⟩ := lv_some h
      refine v_iincN F dX8_isGraded_138 (Nat.le_of_ble_eq_true rfl) rfl ex22 (L' := [mA o, mU, mU, mI x22, mI x11]) rfl ?_
      refine v_goto F dX8_isGraded_141 rfl ?_
      cases h
      refine v_fgt (L' := [mA o, mU, mU, mI x22, mU]) ⟨Or.inl rfl, Or.inl rfl, Or.inl rfl, Or.inl rfl, Or.inr rfl, trivial⟩ ?_
      exact K
    · rw [if_neg hq13] at h
      obtain ⟨z, hu, ez⟩ := up_some h
      clear h
      subst ez
      have h := hu
      clear hu
      refine v_aload_n F dX8_isGraded_69 rfl rfl ?_
      refine gf_X8_60 F dX8_isGraded_70 hp (v := (o + 183)) rfl ?_
      refine v_iload F dX8_isGraded_73 rfl ?_
      refine v_bald F dX8_isGraded_75 (ar_X8_24 hX hp) hi12 ?_
      refine v_aload_n F dX8_isGraded_76 rfl rfl ?_
      refine gf_X8_63 F dX8_isGraded_77 hp (v := (o + 184)) rfl ?_
      refine v_iload F dX8_isGraded_80 rfl ?_
      refine v_bald F dX8_isGraded_82 (ar_X8_25 hX hp) hi12 ?_
      refine v_icmp_le F dX8_isGraded_83 rfl (fun hq23 => ?_) (fun hq23 => ?_)
      · rw [if_pos hq23] at h
        refine v_iconst F dX8_isGraded_90 ⟨by decide, by decide⟩ ?_
        cases h
        cases (show _ = (d', r) from K)
        exact v_zret F (Or.inl rfl) dX8_isGraded_91
      · rw [if_neg hq23] at h
        refine v_iconst F dX8_isGraded_86 ⟨by decide, by decide⟩ ?_
        refine v_goto F dX8_isGraded_87 rfl ?_
        cases h
        cases (show _ = (d', r) from K)
        exact v_zret F (Or.inr rfl) dX8_isGraded_91
theorem fX8_isGraded_43_ok {w : Wd} {l : Launch} {G : Cx} {d m dd : Dt} {o a1 a2 v3 : Int} {d' : Dt} {r : Int} {x : (Dt × Int)} (F : Fx w G cX8_isGraded RX8 5 (some .boolean) { frames := 1, cells := 0, slots := 0, locals := 40 }) (hX : WF dd m) (hp : PB m o 8) (h : fX8_isGraded_43 d o a1 a2 v3 = some x) (K : (fun q => q = (d', r)) x) : V w l WF G (QM w G WF (some (mI r)) d' m 0 0) d m 0 0 43 [mA o, mU, mU, mI v3, mU] [] := by
  unfold fX8_isGraded_43 at h
  exact loop_ok (P := fX8_isGraded_43P w l G (QM w G WF (some (mI r)) d' m 0 0) m o a1 a2) (fun s x hx h1 h2 => fX8_isGraded_43f_ok F hX hp hx (by
    cases x with
    | inl s' => exact h1 s' rfl
    | inr z => cases h2 z rfl; exact K)) h
theorem vm_X8_isGraded {w : Wd} {l : Launch} {d m : Dt} {o a1 a2 : Int} {d' : Dt} {r : Int} (hp : PB m o 8) (h : fX8_isGraded d o a1 a2 = some (d', r)) : VM w l WF yX8_isGraded cX8_isGraded 5 (some .boolean) 1 40 0 0 d m [mA o, mI a1, mI a2] (some (mI r)) d' m := by
  obtain ⟨x, h, K⟩ : ∃ x, fX8_isGraded d o a1 a2 = some x ∧ x = (d', r) := ⟨_, h, rfl⟩
  refine VM.of (L := [mA o, mI a1, mI a2, mU, mU]) (by decide +kernel) rfl (Nat.le_of_ble_eq_true rfl) fun G F _ => v_fact fun _ hX _ _ => ?_
  unfold fX8_isGraded at h
  refine v_aload_n F dX8_isGraded_0 rfl rfl ?_
  refine gf_X8_57 F dX8_isGraded_1 hp (v := (o + 173)) rfl ?_
  refine v_iload_n F dX8_isGraded_4 rfl rfl ?_
  obtain ⟨hi1, h⟩ := ck_some h
  refine v_aaldF (c := 8) (k := 23) F dX8_isGraded_5 hp (Nat.le_of_ble_eq_true rfl) (Nat.le_of_ble_eq_true rfl) (by decide) (by decide) rfl (ar_X8_23 hX hp) (Nat.le_of_ble_eq_true rfl) rfl rfl rfl rfl hi1 (v := ((o + 174) + a1)) (by show o + 174 + 1 * a1 = _; omega) ?_
  refine v_iconst F dX8_isGraded_6 ⟨by decide, by decide⟩ ?_
  refine v_aload_n F dX8_isGraded_7 rfl rfl ?_
  refine gf_X8_60 F dX8_isGraded_8 hp (v := (o + 183)) rfl ?_
  refine v_iconst F dX8_isGraded_11 ⟨by decide, by decide⟩ ?_
  refine v_aload_n F dX8_isGraded_12 rfl rfl ?_
  refine gf_X8_155 F dX8_isGraded_13 hp ?_
  obtain ⟨x2, ex2, h⟩ := lv_some h
  refine v_nI ex2 ?_
  obtain ⟨hi4, h⟩ := ck_some h
  obtain ⟨d3, ed3, h⟩ := cd_some h
  refine v_copy (t := 102) F dX8_isGraded_16 ca_X8_203 (ae_X8_23 (i := a1) hX hp hi1 (v := ((o + 174) + a1)) (by omega)) (ar_X8_24 hX hp) (Nat.le_of_ble_eq_true rfl) (Or.inr (Or.inl rfl)) rfl rfl hi4 rfl ?_
  refine v_nD ed3 ?_
  refine v_aload_n F dX8_isGraded_19 rfl rfl ?_
  refine gf_X8_57 F dX8_isGraded_20 hp (v := (o + 173)) rfl ?_
  refine v_iload_n F dX8_isGraded_23 rfl rfl ?_
  obtain ⟨hi5, h⟩ := ck_some h
  refine v_aaldF (c := 8) (k := 23) F dX8_isGraded_24 hp (Nat.le_of_ble_eq_true rfl) (Nat.le_of_ble_eq_true rfl) (by decide) (by decide) rfl (ar_X8_23 hX hp) (Nat.le_of_ble_eq_true rfl) rfl rfl rfl rfl hi5 (v := ((o + 174) + a2)) (by show o + 174 + 1 * a2 = _; omega) ?_
  refine v_iconst F dX8_isGraded_25 ⟨by decide, by decide⟩ ?_
  refine v_aload_n F dX8_isGraded_26 rfl rfl ?_
  refine gf_X8_63 F dX8_isGraded_27 hp (v := (o + 184)) rfl ?_
  refine v_iconst F dX8_isGraded_30 ⟨by decide, by decide⟩ ?_
  refine v_aload_n F dX8_isGraded_31 rfl rfl ?_
  refine gf_X8_155 F dX8_isGraded_32 hp ?_
  obtain ⟨x6, ex6, h⟩ := lv_some h
  refine v_nI ex6 ?_
  obtain ⟨hi8, h⟩ := ck_some h
  obtain ⟨d7, ed7, h⟩ := cd_some h
  refine v_copy (t := 102) F dX8_isGraded_35 ca_X8_203 (ae_X8_23 (i := a2) hX hp hi5 (v := ((o + 174) + a2)) (by omega)) (ar_X8_25 hX hp) (Nat.le_of_ble_eq_true rfl) (Or.inr (Or.inl rfl)) rfl rfl hi8 rfl ?_
  refine v_nD ed7 ?_
  refine v_aload_n F dX8_isGraded_38 rfl rfl ?_
  refine gf_X8_155 F dX8_isGraded_39 hp ?_
  obtain ⟨x9, ex9, h⟩ := lv_some h
  refine v_nI ex9 ?_
  refine v_istore_n F dX8_isGraded_42 rfl (Nat.le_of_ble_eq_true rfl) (L' := [mA o, mI a1, mI a2, mI x9, mU]) rfl ?_
  refine v_fgt (L' := [mA o, mU, mU, mI x9, mU]) ⟨Or.inl rfl, Or.inr rfl, Or.inr rfl, Or.inl rfl, Or.inl rfl, trivial⟩ ?_
  exact fX8_isGraded_43_ok F hX hp h K
def fX8_byMedians_2P (w : Wd) (l : Launch) (G : Cx) (Q : State → Prop) (m : Dt) (o : Int) (s : Dt × Int) : Prop := V w l WF G Q s.1 m 0 0 2 [mA o, mI (s.2), mU, mU] []
def fX8_byMedians_23P (w : Wd) (l : Launch) (G : Cx) (Q : State → Prop) (m : Dt) (o : Int) (s : Dt × Int) : Prop := V w l WF G Q s.1 m 0 0 23 [mA o, mI (s.2), mU, mU] []
def fX8_byMedians_105P (w : Wd) (l : Launch) (G : Cx) (Q : State → Prop) (m : Dt) (o : Int) (s : Dt) : Prop := V w l WF G Q s m 0 0 105 [mA o, mU, mU, mU] []
def fX8_byMedians_123P (w : Wd) (l : Launch) (G : Cx) (Q : State → Prop) (m : Dt) (o : Int) (s : Dt × Int × Int) : Prop := V w l WF G Q s.1 m 0 0 123 [mA o, mI (s.2.1), mI (s.2.2), mU] []
theorem fX8_byMedians_123f_ok {w : Wd} {l : Launch} {G : Cx} {m dd : Dt} {o : Int} {d' : Dt} {s : Dt × Int × Int} {x : ((Dt × Int × Int) ⊕ ((Dt) ⊕ Dt))} (F : Fx w G cX8_byMedians RX8 4 none { frames := 2, cells := 0, slots := 0, locals := 64 }) (hX : WF dd m) (hp : PB m o 8) (h : fX8_byMedians_123f o s = some x) (K : (Sum.elim (fX8_byMedians_123P w l G (QM w G WF none d' m 0 0) m o) (Sum.elim (fX8_byMedians_105P w l G (QM w G WF none d' m 0 0) m o) (fun q => q = d'))) x) : V w l WF G (QM w G WF none d' m 0 0) s.1 m 0 0 123 [mA o, mI (s.2.1), mI (s.2.2), mU] [] := by
  obtain ⟨d, v1, v2⟩ := s
  unfold fX8_byMedians_123f at h
  dsimp only at h
  refine v_iload_n F dX8_byMedians_123 rfl rfl ?_
  refine v_aload_n F dX8_byMedians_124 rfl rfl ?_
  refine gf_X8_148 F dX8_byMedians_125 hp ?_
  refine v_icmp_ge F dX8_byMedians_128 rfl (fun hq7 => ?_) (fun hq7 => ?_)
  · rw [if_pos hq7] at h
    obtain ⟨z, hu, ez⟩ := up_some h
    clear h
    subst ez
    have h := hu
    clear hu
    refine v_aload_n F dX8_byMedians_171 rfl rfl ?_
    refine v_iload_n F dX8_byMedians_172 rfl rfl ?_
    obtain ⟨d8, hc9, h⟩ := bd_some h
    refine v_callV0 (c := 8) F dX8_byMedians_173 cv_X8_219 rfl (PB.ob hp hX (Nat.le_of_ble_eq_true rfl)) (Nat.le_of_ble_eq_true rfl) rfl (vm_X8_elect hp hc9) rfl (rOk.of rfl) ?_
    refine v_goto F dX8_byMedians_176 rfl ?_
    cases h
    refine v_fgt (L' := [mA o, mU, mU, mU]) ⟨Or.inl rfl, Or.inr rfl, Or.inr rfl, Or.inl rfl, trivial⟩ ?_
    exact K
  · rw [if_neg hq7] at h
    refine v_aload_n F dX8_byMedians_131 rfl rfl ?_
    obtain ⟨x10, ex10, h⟩ := lv_some h
    obtain ⟨hn12, h⟩ := ck_some h
    refine gf_X8_135 F dX8_byMedians_132 hp ex10 fun hr11 => ?_
    have x10p := hr11.resolve_left hn12
    refine gf_X8_212 F dX8_byMedians_135 x10p (v := (x10 + 6)) rfl ?_
    refine v_iload_n F dX8_byMedians_138 rfl rfl ?_
    obtain ⟨hi13, h⟩ := ck_some h
    refine v_iald F dX8_byMedians_139 (ar_X9_7 hX x10p) hi13 ?_
    obtain ⟨x14, ex14, h⟩ := lv_some h
    refine v_nI ex14 ?_
    refine v_istore_n F dX8_byMedians_140 rfl (Nat.le_of_ble_eq_true rfl) (L' := [mA o, mI v1, mI v2, mI x14]) rfl ?_
    refine v_aload_n F dX8_byMedians_141 rfl rfl ?_
    refine v_iload_n F dX8_byMedians_142 rfl rfl ?_
    obtain ⟨x15, hc16, h⟩ := b1_some h
    refine v_callVv (c := 8) F dX8_byMedians_143 cv_X8_209 rfl (PB.ob hp hX (Nat.le_of_ble_eq_true rfl)) (Nat.le_of_ble_eq_true rfl) rfl (vm_X8_isIn hp hc16) rfl (rOk.of rfl) ?_
    refine v_if_eq F dX8_byMedians_146 rfl (fun hq17 => ?_) (fun hq17 => ?_)
    · rw [if_pos hq17] at h
      obtain ⟨x18, ex18, h⟩ := lv_some h
      refine v_iincN F dX8_byMedians_165 (Nat.le_of_ble_eq_true rfl) rfl ex18 (L' := [mA o, mI v1, mI x18, mI x14]) rfl ?_
      refine v_goto F dX8_byMedians_168 rfl ?_
      cases h
      refine v_fgt (L' := [mA o, mI v1, mI x18, mU]) ⟨Or.inl rfl, Or.inl rfl, Or.inl rfl, Or.inr rfl, trivial⟩ ?_
      exact K
    · rw [if_neg hq17] at h
      refine v_iload_n F dX8_byMedians_149 rfl rfl ?_
      refine v_iconst F dX8_byMedians_150 ⟨by decide, by decide⟩ ?_
      refine v_icmp_eq F dX8_byMedians_151 rfl (fun hq19 => ?_) (fun hq19 => ?_)
      · rw [if_pos hq19] at h
        refine v_iload_n F dX8_byMedians_163 rfl rfl ?_
        refine v_istore_n F dX8_byMedians_164 rfl (Nat.le_of_ble_eq_true rfl) (L' := [mA o, mI x14, mI v2, mI x14]) rfl ?_
        obtain ⟨x20, ex20, h⟩ := lv_some h
        refine v_iincN F dX8_byMedians_165 (Nat.le_of_ble_eq_true rfl) rfl ex20 (L' := [mA o, mI x14, mI x20, mI x14]) rfl ?_
        refine v_goto F dX8_byMedians_168 rfl ?_
        cases h
        refine v_fgt (L' := [mA o, mI x14, mI x20, mU]) ⟨Or.inl rfl, Or.inl rfl, Or.inl rfl, Or.inr rfl, trivial⟩ ?_
        exact K
      · rw [if_neg hq19] at h
        refine v_aload_n F dX8_byMedians_154 rfl rfl ?_
        refine v_iload_n F dX8_byMedians_155 rfl rfl ?_
        refine v_iload_n F dX8_byMedians_156 rfl rfl ?_
        obtain ⟨d21, x23, hc22, h⟩ := b2_some h
        refine v_callVv (c := 8) F dX8_byMedians_157 cv_X8_260 rfl (PB.ob hp hX (Nat.le_of_ble_eq_true rfl)) (Nat.le_of_ble_eq_true rfl) rfl (vm_X8_isGraded hp hc22) rfl (rOk.of rfl) ?_
        refine v_if_eq F dX8_byMedians_160 rfl (fun hq24 => ?_) (fun hq24 => ?_)
        · rw [if_pos hq24] at h
          obtain ⟨x25, ex25, h⟩ := lv_some h
          refine v_iincN F dX8_byMedians_165 (Nat.le_of_ble_eq_true rfl) rfl ex25 (L' := [mA o, mI v1, mI x25, mI x14]) rfl ?_
          refine v_goto F dX8_byMedians_168 rfl ?_
          cases h
          refine v_fgt (L' := [mA o, mI v1, mI x25, mU]) ⟨Or.inl rfl, Or.inl rfl, Or.inl rfl, Or.inr rfl, trivial⟩ ?_
          exact K
        · rw [if_neg hq24] at h
          refine v_iload_n F dX8_byMedians_163 rfl rfl ?_
          refine v_istore_n F dX8_byMedians_164 rfl (Nat.le_of_ble_eq_true rfl) (L' := [mA o, mI x14, mI v2, mI x14]) rfl ?_
          obtain ⟨x26, ex26, h⟩ := lv_some h
          refine v_iincN F dX8_byMedians_165 (Nat.le_of_ble_eq_true rfl) rfl ex26 (L' := [mA o, mI x14, mI x26, mI x14]) rfl ?_
          refine v_goto F dX8_byMedians_168 rfl ?_
          cases h
          refine v_fgt (L' := [mA o, mI x14, mI x26, mU]) ⟨Or.inl rfl, Or.inl rfl, Or.inl rfl, Or.inr rfl, trivial⟩ ?_
          exact K
theorem fX8_byMedians_123_ok {w : Wd} {l : Launch} {G : Cx} {d m dd : Dt} {o v1 v2 : Int} {d' : Dt} {x : ((Dt) ⊕ Dt)} (F : Fx w G cX8_byMedians RX8 4 none { frames := 2, cells := 0, slots := 0, locals := 64 }) (hX : WF dd m) (hp : PB m o 8) (h : fX8_byMedians_123 d o v1 v2 = some x) (K : (Sum.elim (fX8_byMedians_105P w l G (QM w G WF none d' m 0 0) m o) (fun q => q = d')) x) : V w l WF G (QM w G WF none d' m 0 0) d m 0 0 123 [mA o, mI v1, mI v2, mU] [] := by
  unfold fX8_byMedians_123 at h
  exact loop_ok (P := fX8_byMedians_123P w l G (QM w G WF none d' m 0 0) m o) (fun s x hx h1 h2 => fX8_byMedians_123f_ok F hX hp hx (by
    cases x with
    | inl s' => exact h1 s' rfl
    | inr z => cases h2 z rfl; exact K)) h
theorem fX8_byMedians_105f_ok {w : Wd} {l : Launch} {G : Cx} {m dd : Dt} {o : Int} {d' : Dt} {s : Dt} {x : ((Dt) ⊕ Dt)} (F : Fx w G cX8_byMedians RX8 4 none { frames := 2, cells := 0, slots := 0, locals := 64 }) (hX : WF dd m) (hp : PB m o 8) (h : fX8_byMedians_105f o s = some x) (K : (Sum.elim (fX8_byMedians_105P w l G (QM w G WF none d' m 0 0) m o) (fun q => q = d')) x) : V w l WF G (QM w G WF none d' m 0 0) s m 0 0 105 [mA o, mU, mU, mU] [] := by
  obtain ⟨d, rfl⟩ : ∃ z, z = s := ⟨s, rfl⟩
  unfold fX8_byMedians_105f at h
  dsimp only at h
  refine v_aload_n F dX8_byMedians_105 rfl rfl ?_
  refine gf_X8_167 F dX8_byMedians_106 hp ?_
  refine v_aload_n F dX8_byMedians_109 rfl rfl ?_
  obtain ⟨x3, ex3, h⟩ := lv_some h
  obtain ⟨hn5, h⟩ := ck_some h
  refine gf_X8_131 F dX8_byMedians_110 hp ex3 fun hr4 => ?_
  have x3p := hr4.resolve_left hn5
  refine gf_X8_185 F dX8_byMedians_113 x3p ?_
  refine v_icmp_ge F dX8_byMedians_116 rfl (fun hq6 => ?_) (fun hq6 => ?_)
  · rw [if_pos hq6] at h
    obtain ⟨z, hu, ez⟩ := up_some h
    clear h
    subst ez
    have h := hu
    clear hu
    cases h
    cases (show _ = d' from K)
    exact v_vret F dX8_byMedians_179
  · rw [if_neg hq6] at h
    refine v_iconst F dX8_byMedians_119 ⟨by decide, by decide⟩ ?_
    refine v_istore_n F dX8_byMedians_120 rfl (Nat.le_of_ble_eq_true rfl) (L' := [mA o, mI (-1), mU, mU]) rfl ?_
    refine v_iconst F dX8_byMedians_121 ⟨by decide, by decide⟩ ?_
    refine v_istore_n F dX8_byMedians_122 rfl (Nat.le_of_ble_eq_true rfl) (L' := [mA o, mI (-1), mI 0, mU]) rfl ?_
    exact fX8_byMedians_123_ok F hX hp h K
theorem fX8_byMedians_105_ok {w : Wd} {l : Launch} {G : Cx} {d m dd : Dt} {o : Int} {d' : Dt} {x : Dt} (F : Fx w G cX8_byMedians RX8 4 none { frames := 2, cells := 0, slots := 0, locals := 64 }) (hX : WF dd m) (hp : PB m o 8) (h : fX8_byMedians_105 d o = some x) (K : (fun q => q = d') x) : V w l WF G (QM w G WF none d' m 0 0) d m 0 0 105 [mA o, mU, mU, mU] [] := by
  unfold fX8_byMedians_105 at h
  exact loop_ok (P := fX8_byMedians_105P w l G (QM w G WF none d' m 0 0) m o) (fun s x hx h1 h2 => fX8_byMedians_105f_ok F hX hp hx (by
    cases x with
    | inl s' => exact h1 s' rfl
    | inr z => cases h2 z rfl; exact K)) h
def fX8_byMedians_39P (w : Wd) (l : Launch) (G : Cx) (Q : State → Prop) (m : Dt) (o v1 : Int) (s : Dt × Int) : Prop := V w l WF G Q s.1 m 0 0 39 [mA o, mI v1, mI (s.2), mU] []
def fX8_byMedians_49P (w : Wd) (l : Launch) (G : Cx) (Q : State → Prop) (m : Dt) (o v1 v2 : Int) (s : Dt × Int) : Prop := V w l WF G Q s.1 m 0 0 49 [mA o, mI v1, mI v2, mI (s.2)] []
theorem fX8_byMedians_81_ok {w : Wd} {l : Launch} {G : Cx} {d m dd : Dt} {o v1 v2 v3 s1 s2 s3 : Int} {d' : Dt} {x : ((Dt × Int) ⊕ ((Dt × Int) ⊕ ((Dt × Int) ⊕ Dt)))} (F : Fx w G cX8_byMedians RX8 4 none { frames := 2, cells := 0, slots := 0, locals := 64 }) (hX : WF dd m) (hp : PB m o 8) (h : fX8_byMedians_81 d o v1 v2 v3 s1 s2 s3 = some x) (K : (Sum.elim (fX8_byMedians_49P w l G (QM w G WF none d' m 0 0) m o v1 v2) (Sum.elim (fX8_byMedians_39P w l G (QM w G WF none d' m 0 0) m o v1) (Sum.elim (fX8_byMedians_23P w l G (QM w G WF none d' m 0 0) m o) (fun q => q = d')))) x) : V w l WF G (QM w G WF none d' m 0 0) d m 0 0 81 [mA o, mI v1, mI v2, mI v3] [mL s3, mL s2, mI s1, mA (o + 126)] := by
  unfold fX8_byMedians_81 at h
  refine v_ladd F dX8_byMedians_81 ?_
  obtain ⟨hi38, h⟩ := ck_some h
  obtain ⟨d39, ed39, h⟩ := sd_some h
  refine v_last F dX8_byMedians_82 (ar_X8_13 hX hp) hi38 ?_
  refine v_nD ed39 ?_
  obtain ⟨x40, ex40, h⟩ := lv_some h
  refine v_iincN F dX8_byMedians_83 (Nat.le_of_ble_eq_true rfl) rfl ex40 (L' := [mA o, mI v1, mI v2, mI x40]) rfl ?_
  refine v_goto F dX8_byMedians_86 rfl ?_
  cases h
  exact K
theorem fX8_byMedians_49f_ok {w : Wd} {l : Launch} {G : Cx} {m dd : Dt} {o v1 v2 : Int} {d' : Dt} {s : Dt × Int} {x : ((Dt × Int) ⊕ ((Dt × Int) ⊕ ((Dt × Int) ⊕ Dt)))} (F : Fx w G cX8_byMedians RX8 4 none { frames := 2, cells := 0, slots := 0, locals := 64 }) (hX : WF dd m) (hp : PB m o 8) (h : fX8_byMedians_49f o v1 v2 s = some x) (K : (Sum.elim (fX8_byMedians_49P w l G (QM w G WF none d' m 0 0) m o v1 v2) (Sum.elim (fX8_byMedians_39P w l G (QM w G WF none d' m 0 0) m o v1) (Sum.elim (fX8_byMedians_23P w l G (QM w G WF none d' m 0 0) m o) (fun q => q = d')))) x) : V w l WF G (QM w G WF none d' m 0 0) s.1 m 0 0 49 [mA o, mI v1, mI v2, mI (s.2)] [] := by
  obtain ⟨d, v3⟩ := s
  unfold fX8_byMedians_49f at h
  dsimp only at h
  refine v_iload_n F dX8_byMedians_49 rfl rfl ?_
  refine v_aload_n F dX8_byMedians_50 rfl rfl ?_
  refine gf_X8_155 F dX8_byMedians_51 hp ?_
  refine v_icmp_ge F dX8_byMedians_54 rfl (fun hq33 => ?_) (fun hq33 => ?_)
  · rw [if_pos hq33] at h
    obtain ⟨z, hu, ez⟩ := up_some h
    clear h
    subst ez
    have h := hu
    clear hu
    obtain ⟨x34, ex34, h⟩ := lv_some h
    refine v_iincN F dX8_byMedians_89 (Nat.le_of_ble_eq_true rfl) rfl ex34 (L' := [mA o, mI v1, mI x34, mI v3]) rfl ?_
    refine v_goto F dX8_byMedians_92 rfl ?_
    cases h
    refine v_fgt (L' := [mA o, mI v1, mI x34, mU]) ⟨Or.inl rfl, Or.inl rfl, Or.inl rfl, Or.inr rfl, trivial⟩ ?_
    exact K
  · rw [if_neg hq33] at h
    refine v_aload_n F dX8_byMedians_57 rfl rfl ?_
    refine gf_X8_33 F dX8_byMedians_58 hp (v := (o + 126)) rfl ?_
    refine v_iload_n F dX8_byMedians_61 rfl rfl ?_
    refine v_dup2_IA F dX8_byMedians_62 ?_
    obtain ⟨hi35, h⟩ := ck_some h
    refine v_lald F dX8_byMedians_63 (ar_X8_13 hX hp) hi35 ?_
    refine v_aload_n F dX8_byMedians_64 rfl rfl ?_
    refine gf_X8_17 F dX8_byMedians_65 hp (v := (o + 2)) rfl ?_
    refine v_iload_n F dX8_byMedians_68 rfl rfl ?_
    obtain ⟨hi36, h⟩ := ck_some h
    refine v_aaldF (c := 8) (k := 6) F dX8_byMedians_69 hp (Nat.le_of_ble_eq_true rfl) (Nat.le_of_ble_eq_true rfl) (by decide) (by decide) rfl (ar_X8_6 hX hp) (Nat.le_of_ble_eq_true rfl) rfl rfl rfl rfl hi36 (v := ((o + 3) + v3)) (by show o + 3 + 1 * v3 = _; omega) ?_
    refine v_iload_n F dX8_byMedians_70 rfl rfl ?_
    refine v_bald F dX8_byMedians_71 (ae_X8_6 (i := v3) hX hp hi36 (v := ((o + 3) + v3)) (by omega)) hi35 ?_
    refine v_iload_n F dX8_byMedians_72 rfl rfl ?_
    refine v_icmp_ne F dX8_byMedians_73 rfl (fun hq37 => ?_) (fun hq37 => ?_)
    · rw [if_neg hq37] at h
      refine v_lconst0 F dX8_byMedians_80 ?_
      exact fX8_byMedians_81_ok F hX hp h K
    · rw [if_pos hq37] at h
      refine v_lconst1 F dX8_byMedians_76 ?_
      refine v_goto F dX8_byMedians_77 rfl ?_
      exact fX8_byMedians_81_ok F hX hp h K
theorem fX8_byMedians_49_ok {w : Wd} {l : Launch} {G : Cx} {d m dd : Dt} {o v1 v2 v3 : Int} {d' : Dt} {x : ((Dt × Int) ⊕ ((Dt × Int) ⊕ Dt))} (F : Fx w G cX8_byMedians RX8 4 none { frames := 2, cells := 0, slots := 0, locals := 64 }) (hX : WF dd m) (hp : PB m o 8) (h : fX8_byMedians_49 d o v1 v2 v3 = some x) (K : (Sum.elim (fX8_byMedians_39P w l G (QM w G WF none d' m 0 0) m o v1) (Sum.elim (fX8_byMedians_23P w l G (QM w G WF none d' m 0 0) m o) (fun q => q = d'))) x) : V w l WF G (QM w G WF none d' m 0 0) d m 0 0 49 [mA o, mI v1, mI v2, mI v3] [] := by
  unfold fX8_byMedians_49 at h
  exact loop_ok (P := fX8_byMedians_49P w l G (QM w G WF none d' m 0 0) m o v1 v2) (fun s x hx h1 h2 => fX8_byMedians_49f_ok F hX hp hx (by
    cases x with
    | inl s' => exact h1 s' rfl
    | inr z => cases h2 z rfl; exact K)) h
theorem fX8_byMedians_39f_ok {w : Wd} {l : Launch} {G : Cx} {m dd : Dt} {o v1 : Int} {d' : Dt} {s : Dt × Int} {x : ((Dt × Int) ⊕ ((Dt × Int) ⊕ Dt))} (F : Fx w G cX8_byMedians RX8 4 none { frames := 2, cells := 0, slots := 0, locals := 64 }) (hX : WF dd m) (hp : PB m o 8) (h : fX8_byMedians_39f o v1 s = some x) (K : (Sum.elim (fX8_byMedians_39P w l G (QM w G WF none d' m 0 0) m o v1) (Sum.elim (fX8_byMedians_23P w l G (QM w G WF none d' m 0 0) m o) (fun q => q = d'))) x) : V w l WF G (QM w G WF none d' m 0 0) s.1 m 0 0 39 [mA o, mI v1, mI (s.2), mU] [] := by
  obtain ⟨d, v2⟩ := s
  unfold fX8_byMedians_39f at h
  dsimp only at h
  refine v_iload_n F dX8_byMedians_39 rfl rfl ?_
  refine v_aload_n F dX8_byMedians_40 rfl rfl ?_
  refine gf_X8_148 F dX8_byMedians_41 hp ?_
  refine v_icmp_ge F dX8_byMedians_44 rfl (fun hq29 => ?_) (fun hq29 => ?_)
  · rw [if_pos hq29] at h
    obtain ⟨z, hu, ez⟩ := up_some h
    clear h
    subst ez
    have h := hu
    clear hu
    refine v_aload_n F dX8_byMedians_95 rfl rfl ?_
    obtain ⟨d30, hc31, h⟩ := bd_some h
    refine v_callV0 (c := 8) F dX8_byMedians_96 cv_X8_254 rfl (PB.ob hp hX (Nat.le_of_ble_eq_true rfl)) (Nat.le_of_ble_eq_true rfl) rfl (vm_X8_tell hp hc31) rfl (rOk.of rfl) ?_
    obtain ⟨x32, ex32, h⟩ := lv_some h
    refine v_iincN F dX8_byMedians_99 (Nat.le_of_ble_eq_true rfl) rfl ex32 (L' := [mA o, mI x32, mI v2, mU]) rfl ?_
    refine v_goto F dX8_byMedians_102 rfl ?_
    cases h
    refine v_fgt (L' := [mA o, mI x32, mU, mU]) ⟨Or.inl rfl, Or.inl rfl, Or.inr rfl, Or.inl rfl, trivial⟩ ?_
    exact K
  · rw [if_neg hq29] at h
    refine v_iconst F dX8_byMedians_47 ⟨by decide, by decide⟩ ?_
    refine v_istore_n F dX8_byMedians_48 rfl (Nat.le_of_ble_eq_true rfl) (L' := [mA o, mI v1, mI v2, mI 0]) rfl ?_
    exact fX8_byMedians_49_ok F hX hp h K
theorem fX8_byMedians_39_ok {w : Wd} {l : Launch} {G : Cx} {d m dd : Dt} {o v1 v2 : Int} {d' : Dt} {x : ((Dt × Int) ⊕ Dt)} (F : Fx w G cX8_byMedians RX8 4 none { frames := 2, cells := 0, slots := 0, locals := 64 }) (hX : WF dd m) (hp : PB m o 8) (h : fX8_byMedians_39 d o v1 v2 = some x) (K : (Sum.elim (fX8_byMedians_23P w l G (QM w G WF none d' m 0 0) m o) (fun q => q = d')) x) : V w l WF G (QM w G WF none d' m 0 0) d m 0 0 39 [mA o, mI v1, mI v2, mU] [] := by
  unfold fX8_byMedians_39 at h
  exact loop_ok (P := fX8_byMedians_39P w l G (QM w G WF none d' m 0 0) m o v1) (fun s x hx h1 h2 => fX8_byMedians_39f_ok F hX hp hx (by
    cases x with
    | inl s' => exact h1 s' rfl
    | inr z => cases h2 z rfl; exact K)) h
theorem fX8_byMedians_23f_ok {w : Wd} {l : Launch} {G : Cx} {m dd : Dt} {o : Int} {d' : Dt} {s : Dt × Int} {x : ((Dt × Int) ⊕ Dt)} (F : Fx w G cX8_byMedians RX8 4 none { frames := 2, cells := 0, slots := 0, locals := 64 }) (hX : WF dd m) (hp : PB m o 8) (h : fX8_byMedians_23f o s = some x) (K : (Sum.elim (fX8_byMedians_23P w l G (QM w G WF none d' m 0 0) m o) (fun q => q = d')) x) : V w l WF G (QM w G WF none d' m 0 0) s.1 m 0 0 23 [mA o, mI (s.2), mU, mU] [] := by
  obtain ⟨d, v1⟩ := s
  unfold fX8_byMedians_23f at h
  dsimp only at h
  refine v_iload_n F dX8_byMedians_23 rfl rfl ?_
  refine v_bipush F dX8_byMedians_24 rfl ⟨by decide, by decide⟩ ?_
  refine v_icmp_ge F dX8_byMedians_26 rfl (fun hq2 => ?_) (fun hq2 => ?_)
  · rw [if_pos hq2] at h
    obtain ⟨z, hu, ez⟩ := up_some h
    clear h
    subst ez
    have h := hu
    clear hu
    refine v_fgt (L' := [mA o, mU, mU, mU]) ⟨Or.inl rfl, Or.inr rfl, Or.inl rfl, Or.inl rfl, trivial⟩ ?_
    exact fX8_byMedians_105_ok F hX hp h K
  · rw [if_neg hq2] at h
    refine v_aload_n F dX8_byMedians_29 rfl rfl ?_
    refine gf_X8_33 F dX8_byMedians_30 hp (v := (o + 126)) rfl ?_
    refine v_lconst0 F dX8_byMedians_33 ?_
    obtain ⟨d27, hc28, h⟩ := bd_some h
    refine v_callS0 F dX8_byMedians_34 cs_X8_242 rfl (vm_J4_fill_3 (ar_X8_13 hX hp) hc28) rfl (rOk.of rfl) ?_
    refine v_iconst F dX8_byMedians_37 ⟨by decide, by decide⟩ ?_
    refine v_istore_n F dX8_byMedians_38 rfl (Nat.le_of_ble_eq_true rfl) (L' := [mA o, mI v1, mI 0, mU]) rfl ?_
    exact fX8_byMedians_39_ok F hX hp h K
theorem fX8_byMedians_23_ok {w : Wd} {l : Launch} {G : Cx} {d m dd : Dt} {o v1 : Int} {d' : Dt} {x : Dt} (F : Fx w G cX8_byMedians RX8 4 none { frames := 2, cells := 0, slots := 0, locals := 64 }) (hX : WF dd m) (hp : PB m o 8) (h : fX8_byMedians_23 d o v1 = some x) (K : (fun q => q = d') x) : V w l WF G (QM w G WF none d' m 0 0) d m 0 0 23 [mA o, mI v1, mU, mU] [] := by
  unfold fX8_byMedians_23 at h
  exact loop_ok (P := fX8_byMedians_23P w l G (QM w G WF none d' m 0 0) m o) (fun s x hx h1 h2 => fX8_byMedians_23f_ok F hX hp hx (by
    cases x with
    | inl s' => exact h1 s' rfl
    | inr z => cases h2 z rfl; exact K)) h
theorem fX8_byMedians_2f_ok {w : Wd} {l : Launch} {G : Cx} {m dd : Dt} {o : Int} {d' : Dt} {s : Dt × Int} {x : ((Dt × Int) ⊕ Dt)} (F : Fx w G cX8_byMedians RX8 4 none { frames := 2, cells := 0, slots := 0, locals := 64 }) (hX : WF dd m) (hp : PB m o 8) (h : fX8_byMedians_2f o s = some x) (K : (Sum.elim (fX8_byMedians_2P w l G (QM w G WF none d' m 0 0) m o) (fun q => q = d')) x) : V w l WF G (QM w G WF none d' m 0 0) s.1 m 0 0 2 [mA o, mI (s.2), mU, mU] [] := by
  obtain ⟨d, v1⟩ := s
  unfold fX8_byMedians_2f at h
  dsimp only at h
  refine v_iload_n F dX8_byMedians_2 rfl rfl ?_
  refine v_aload_n F dX8_byMedians_3 rfl rfl ?_
  refine gf_X8_148 F dX8_byMedians_4 hp ?_
  refine v_icmp_ge F dX8_byMedians_7 rfl (fun hq1 => ?_) (fun hq1 => ?_)
  · rw [if_pos hq1] at h
    obtain ⟨z, hu, ez⟩ := up_some h
    clear h
    subst ez
    have h := hu
    clear hu
    refine v_iconst F dX8_byMedians_21 ⟨by decide, by decide⟩ ?_
    refine v_istore_n F dX8_byMedians_22 rfl (Nat.le_of_ble_eq_true rfl) (L' := [mA o, mI 0, mU, mU]) rfl ?_
    exact fX8_byMedians_23_ok F hX hp h K
  · rw [if_neg hq1] at h
    refine v_aload_n F dX8_byMedians_10 rfl rfl ?_
    refine v_iload_n F dX8_byMedians_11 rfl rfl ?_
    obtain ⟨d41, hc42, h⟩ := bd_some h
    refine v_callV0 (c := 8) F dX8_byMedians_12 cv_X8_257 rfl (PB.ob hp hX (Nat.le_of_ble_eq_true rfl)) (Nat.le_of_ble_eq_true rfl) rfl (vm_X8_sortMarks hp hc42) rfl (rOk.of rfl) ?_
    obtain ⟨x43, ex43, h⟩ := lv_some h
    refine v_iincN F dX8_byMedians_15 (Nat.le_of_ble_eq_true rfl) rfl ex43 (L' := [mA o, mI x43, mU, mU]) rfl ?_
    refine v_goto F dX8_byMedians_18 rfl ?_
    cases h
    exact K
theorem fX8_byMedians_2_ok {w : Wd} {l : Launch} {G : Cx} {d m dd : Dt} {o v1 : Int} {d' : Dt} {x : Dt} (F : Fx w G cX8_byMedians RX8 4 none { frames := 2, cells := 0, slots := 0, locals := 64 }) (hX : WF dd m) (hp : PB m o 8) (h : fX8_byMedians_2 d o v1 = some x) (K : (fun q => q = d') x) : V w l WF G (QM w G WF none d' m 0 0) d m 0 0 2 [mA o, mI v1, mU, mU] [] := by
  unfold fX8_byMedians_2 at h
  exact loop_ok (P := fX8_byMedians_2P w l G (QM w G WF none d' m 0 0) m o) (fun s x hx h1 h2 => fX8_byMedians_2f_ok F hX hp hx (by
    cases x with
    | inl s' => exact h1 s' rfl
    | inr z => cases h2 z rfl; exact K)) h
theorem vm_X8_byMedians {w : Wd} {l : Launch} {d m : Dt} {o : Int} {d' : Dt} (hp : PB m o 8) (h : fX8_byMedians d o = some d') : VM w l WF yX8_byMedians cX8_byMedians 4 none 2 64 0 0 d m [mA o] none d' m := by
  obtain ⟨x, h, K⟩ : ∃ x, fX8_byMedians d o = some x ∧ x = d' := ⟨_, h, rfl⟩
  refine VM.of (L := [mA o, mU, mU, mU]) (by decide +kernel) rfl (Nat.le_of_ble_eq_true rfl) fun G F _ => v_fact fun _ hX _ _ => ?_
  unfold fX8_byMedians at h
  refine v_iconst F dX8_byMedians_0 ⟨by decide, by decide⟩ ?_
  refine v_istore_n F dX8_byMedians_1 rfl (Nat.le_of_ble_eq_true rfl) (L' := [mA o, mI 0, mU, mU]) rfl ?_
  exact fX8_byMedians_2_ok F hX hp h K
def fX8_nextOn_2P (w : Wd) (l : Launch) (G : Cx) (Q : State → Prop) (m : Dt) (d : Dt) (o a1 : Int) (s : Int) : Prop := V w l WF G Q d m 0 0 2 [mA o, mI a1, mI (s)] []
theorem fX8_nextOn_2f_ok {w : Wd} {l : Launch} {G : Cx} {d m dd : Dt} {o a1 : Int} {r : Int} {s : Int} {x : ((Int) ⊕ Int)} (F : Fx w G cX8_nextOn RX8 3 (some .int) { frames := 1, cells := 0, slots := 0, locals := 21 }) (hX : WF dd m) (hp : PB m o 8) (h : fX8_nextOn_2f d o a1 s = some x) (K : (Sum.elim (fX8_nextOn_2P w l G (QM w G WF (some (mI r)) d m 0 0) m d o a1) (fun q => q = r)) x) : V w l WF G (QM w G WF (some (mI r)) d m 0 0) d m 0 0 2 [mA o, mI a1, mI (s)] [] := by
  obtain ⟨v2, rfl⟩ : ∃ z, z = s := ⟨s, rfl⟩
  unfold fX8_nextOn_2f at h
  dsimp only at h
  refine v_iload_n F dX8_nextOn_2 rfl rfl ?_
  refine v_aload_n F dX8_nextOn_3 rfl rfl ?_
  refine gf_X8_29 F dX8_nextOn_4 hp (v := (o + 125)) rfl ?_
  refine v_iload_n F dX8_nextOn_7 rfl rfl ?_
  obtain ⟨hi1, h⟩ := ck_some h
  refine v_iald F dX8_nextOn_8 (ar_X8_12 hX hp) hi1 ?_
  refine v_icmp_ge F dX8_nextOn_9 rfl (fun hq2 => ?_) (fun hq2 => ?_)
  · rw [if_pos hq2] at h
    obtain ⟨z, hu, ez⟩ := up_some h
    clear h
    subst ez
    have h := hu
    clear hu
    refine v_iconst F dX8_nextOn_42 ⟨by decide, by decide⟩ ?_
    cases h
    cases (show _ = r from K)
    exact v_iret F dX8_nextOn_43
  · rw [if_neg hq2] at h
    refine v_aload_n F dX8_nextOn_12 rfl rfl ?_
    refine v_aload_n F dX8_nextOn_13 rfl rfl ?_
    refine gf_X8_26 F dX8_nextOn_14 hp (v := (o + 64)) rfl ?_
    refine v_iload_n F dX8_nextOn_17 rfl rfl ?_
    refine v_aaldF (c := 8) (k := 11) F dX8_nextOn_18 hp (Nat.le_of_ble_eq_true rfl) (Nat.le_of_ble_eq_true rfl) (by decide) (by decide) rfl (ar_X8_11 hX hp) (Nat.le_of_ble_eq_true rfl) rfl rfl rfl rfl hi1 (v := ((o + 65) + a1)) (by show o + 65 + 1 * a1 = _; omega) ?_
    refine v_iload_n F dX8_nextOn_19 rfl rfl ?_
    obtain ⟨hi3, h⟩ := ck_some h
    refine v_iald F dX8_nextOn_20 (ae_X8_11 (i := a1) hX hp hi1 (v := ((o + 65) + a1)) (by omega)) hi3 ?_
    obtain ⟨x4, hc5, h⟩ := b1_some h
    refine v_callVv (c := 8) F dX8_nextOn_21 cv_X8_209 rfl (PB.ob hp hX (Nat.le_of_ble_eq_true rfl)) (Nat.le_of_ble_eq_true rfl) rfl (vm_X8_isIn hp hc5) rfl (rOk.of rfl) ?_
    refine v_if_eq F dX8_nextOn_24 rfl (fun hq6 => ?_) (fun hq6 => ?_)
    · rw [if_pos hq6] at h
      obtain ⟨x7, ex7, h⟩ := lv_some h
      refine v_iincN F dX8_nextOn_36 (Nat.le_of_ble_eq_true rfl) rfl ex7 (L' := [mA o, mI a1, mI x7]) rfl ?_
      refine v_goto F dX8_nextOn_39 rfl ?_
      cases h
      exact K
    · rw [if_neg hq6] at h
      obtain ⟨z, hu, ez⟩ := up_some h
      clear h
      subst ez
      have h := hu
      clear hu
      refine v_aload_n F dX8_nextOn_27 rfl rfl ?_
      refine gf_X8_26 F dX8_nextOn_28 hp (v := (o + 64)) rfl ?_
      refine v_iload_n F dX8_nextOn_31 rfl rfl ?_
      refine v_aaldF (c := 8) (k := 11) F dX8_nextOn_32 hp (Nat.le_of_ble_eq_true rfl) (Nat.le_of_ble_eq_true rfl) (by decide) (by decide) rfl (ar_X8_11 hX hp) (Nat.le_of_ble_eq_true rfl) rfl rfl rfl rfl hi1 (v := ((o + 65) + a1)) (by show o + 65 + 1 * a1 = _; omega) ?_
      refine v_iload_n F dX8_nextOn_33 rfl rfl ?_
      refine v_iald F dX8_nextOn_34 (ae_X8_11 (i := a1) hX hp hi1 (v := ((o + 65) + a1)) (by omega)) hi3 ?_
      cases h
      cases (show _ = r from K)
      exact v_iret F dX8_nextOn_35
theorem fX8_nextOn_2_ok {w : Wd} {l : Launch} {G : Cx} {d m dd : Dt} {o a1 v2 : Int} {r : Int} {x : Int} (F : Fx w G cX8_nextOn RX8 3 (some .int) { frames := 1, cells := 0, slots := 0, locals := 21 }) (hX : WF dd m) (hp : PB m o 8) (h : fX8_nextOn_2 d o a1 v2 = some x) (K : (fun q => q = r) x) : V w l WF G (QM w G WF (some (mI r)) d m 0 0) d m 0 0 2 [mA o, mI a1, mI v2] [] := by
  unfold fX8_nextOn_2 at h
  exact loop_ok (P := fX8_nextOn_2P w l G (QM w G WF (some (mI r)) d m 0 0) m d o a1) (fun s x hx h1 h2 => fX8_nextOn_2f_ok F hX hp hx (by
    cases x with
    | inl s' => exact h1 s' rfl
    | inr z => cases h2 z rfl; exact K)) h
theorem vm_X8_nextOn {w : Wd} {l : Launch} {d m : Dt} {o a1 : Int} {r : Int} (hp : PB m o 8) (h : fX8_nextOn d o a1 = some r) : VM w l WF yX8_nextOn cX8_nextOn 3 (some .int) 1 21 0 0 d m [mA o, mI a1] (some (mI r)) d m := by
  obtain ⟨x, h, K⟩ : ∃ x, fX8_nextOn d o a1 = some x ∧ x = r := ⟨_, h, rfl⟩
  refine VM.of (L := [mA o, mI a1, mU]) (by decide +kernel) rfl (Nat.le_of_ble_eq_true rfl) fun G F _ => v_fact fun _ hX _ _ => ?_
  unfold fX8_nextOn at h
  refine v_iconst F dX8_nextOn_0 ⟨by decide, by decide⟩ ?_
  refine v_istore_n F dX8_nextOn_1 rfl (Nat.le_of_ble_eq_true rfl) (L' := [mA o, mI a1, mI 0]) rfl ?_
  exact fX8_nextOn_2_ok F hX hp h K
def fX8_firsts_10P (w : Wd) (l : Launch) (G : Cx) (Q : State → Prop) (m : Dt) (o : Int) (s : Dt × Int) : Prop := V w l WF G Q s.1 m 0 0 10 [mA o, mI (s.2), mU] []
theorem fX8_firsts_10f_ok {w : Wd} {l : Launch} {G : Cx} {m dd : Dt} {o : Int} {d' : Dt} {s : Dt × Int} {x : ((Dt × Int) ⊕ Dt)} (F : Fx w G cX8_firsts RX8 3 none { frames := 2, cells := 0, slots := 0, locals := 43 }) (hX : WF dd m) (hp : PB m o 8) (h : fX8_firsts_10f o s = some x) (K : (Sum.elim (fX8_firsts_10P w l G (QM w G WF none d' m 0 0) m o) (fun q => q = d')) x) : V w l WF G (QM w G WF none d' m 0 0) s.1 m 0 0 10 [mA o, mI (s.2), mU] [] := by
  obtain ⟨d, v1⟩ := s
  unfold fX8_firsts_10f at h
  dsimp only at h
  refine v_iload_n F dX8_firsts_10 rfl rfl ?_
  refine v_aload_n F dX8_firsts_11 rfl rfl ?_
  refine gf_X8_155 F dX8_firsts_12 hp ?_
  refine v_icmp_ge F dX8_firsts_15 rfl (fun hq3 => ?_) (fun hq3 => ?_)
  · rw [if_pos hq3] at h
    obtain ⟨z, hu, ez⟩ := up_some h
    clear h
    subst ez
    have h := hu
    clear hu
    cases h
    cases (show _ = d' from K)
    exact v_vret F dX8_firsts_45
  · rw [if_neg hq3] at h
    refine v_aload_n F dX8_firsts_18 rfl rfl ?_
    refine v_iload_n F dX8_firsts_19 rfl rfl ?_
    obtain ⟨x4, hc5, h⟩ := b1_some h
    refine v_callVv (c := 8) F dX8_firsts_20 cv_X8_263 rfl (PB.ob hp hX (Nat.le_of_ble_eq_true rfl)) (Nat.le_of_ble_eq_true rfl) rfl (vm_X8_nextOn hp hc5) rfl (rOk.of rfl) ?_
    refine v_istore_n F dX8_firsts_23 rfl (Nat.le_of_ble_eq_true rfl) (L' := [mA o, mI v1, mI x4]) rfl ?_
    refine v_iload_n F dX8_firsts_24 rfl rfl ?_
    refine v_iconst F dX8_firsts_25 ⟨by decide, by decide⟩ ?_
    refine v_icmp_eq F dX8_firsts_26 rfl (fun hq6 => ?_) (fun hq6 => ?_)
    · rw [if_pos hq6] at h
      obtain ⟨x7, ex7, h⟩ := lv_some h
      refine v_iincN F dX8_firsts_39 (Nat.le_of_ble_eq_true rfl) rfl ex7 (L' := [mA o, mI x7, mI x4]) rfl ?_
      refine v_goto F dX8_firsts_42 rfl ?_
      cases h
      refine v_fgt (L' := [mA o, mI x7, mU]) ⟨Or.inl rfl, Or.inl rfl, Or.inr rfl, trivial⟩ ?_
      exact K
    · rw [if_neg hq6] at h
      refine v_aload_n F dX8_firsts_29 rfl rfl ?_
      refine gf_X8_33 F dX8_firsts_30 hp (v := (o + 126)) rfl ?_
      refine v_iload_n F dX8_firsts_33 rfl rfl ?_
      refine v_dup2_IA F dX8_firsts_34 ?_
      obtain ⟨hi8, h⟩ := ck_some h
      refine v_lald F dX8_firsts_35 (ar_X8_13 hX hp) hi8 ?_
      refine v_lconst1 F dX8_firsts_36 ?_
      refine v_ladd F dX8_firsts_37 ?_
      obtain ⟨d9, ed9, h⟩ := sd_some h
      refine v_last F dX8_firsts_38 (ar_X8_13 hX hp) hi8 ?_
      refine v_nD ed9 ?_
      obtain ⟨x10, ex10, h⟩ := lv_some h
      refine v_iincN F dX8_firsts_39 (Nat.le_of_ble_eq_true rfl) rfl ex10 (L' := [mA o, mI x10, mI x4]) rfl ?_
      refine v_goto F dX8_firsts_42 rfl ?_
      cases h
      refine v_fgt (L' := [mA o, mI x10, mU]) ⟨Or.inl rfl, Or.inl rfl, Or.inr rfl, trivial⟩ ?_
      exact K
theorem fX8_firsts_10_ok {w : Wd} {l : Launch} {G : Cx} {d m dd : Dt} {o v1 : Int} {d' : Dt} {x : Dt} (F : Fx w G cX8_firsts RX8 3 none { frames := 2, cells := 0, slots := 0, locals := 43 }) (hX : WF dd m) (hp : PB m o 8) (h : fX8_firsts_10 d o v1 = some x) (K : (fun q => q = d') x) : V w l WF G (QM w G WF none d' m 0 0) d m 0 0 10 [mA o, mI v1, mU] [] := by
  unfold fX8_firsts_10 at h
  exact loop_ok (P := fX8_firsts_10P w l G (QM w G WF none d' m 0 0) m o) (fun s x hx h1 h2 => fX8_firsts_10f_ok F hX hp hx (by
    cases x with
    | inl s' => exact h1 s' rfl
    | inr z => cases h2 z rfl; exact K)) h
theorem vm_X8_firsts {w : Wd} {l : Launch} {d m : Dt} {o : Int} {d' : Dt} (hp : PB m o 8) (h : fX8_firsts d o = some d') : VM w l WF yX8_firsts cX8_firsts 3 none 2 43 0 0 d m [mA o] none d' m := by
  obtain ⟨x, h, K⟩ : ∃ x, fX8_firsts d o = some x ∧ x = d' := ⟨_, h, rfl⟩
  refine VM.of (L := [mA o, mU, mU]) (by decide +kernel) rfl (Nat.le_of_ble_eq_true rfl) fun G F _ => v_fact fun _ hX _ _ => ?_
  unfold fX8_firsts at h
  refine v_aload_n F dX8_firsts_0 rfl rfl ?_
  refine gf_X8_33 F dX8_firsts_1 hp (v := (o + 126)) rfl ?_
  refine v_lconst0 F dX8_firsts_4 ?_
  obtain ⟨d1, hc2, h⟩ := bd_some h
  refine v_callS0 F dX8_firsts_5 cs_X8_242 rfl (vm_J4_fill_3 (ar_X8_13 hX hp) hc2) rfl (rOk.of rfl) ?_
  refine v_iconst F dX8_firsts_8 ⟨by decide, by decide⟩ ?_
  refine v_istore_n F dX8_firsts_9 rfl (Nat.le_of_ble_eq_true rfl) (L' := [mA o, mI 0, mU]) rfl ?_
  exact fX8_firsts_10_ok F hX hp h K
def fX8_inMany_4P (w : Wd) (l : Launch) (G : Cx) (Q : State → Prop) (m : Dt) (d : Dt) (o : Int) (s : Int × Int) : Prop := V w l WF G Q d m 0 0 4 [mA o, mI (s.1), mI (s.2)] []
theorem fX8_inMany_26_ok {w : Wd} {l : Launch} {G : Cx} {d m dd : Dt} {o v2 s0 s1 : Int} {r : Int} {x : ((Int × Int) ⊕ Int)} (F : Fx w G cX8_inMany RX8 3 (some .int) { frames := 1, cells := 0, slots := 0, locals := 21 }) (hX : WF dd m) (hp : PB m o 8) (h : fX8_inMany_26 d o v2 s0 s1 = some x) (K : (Sum.elim (fX8_inMany_4P w l G (QM w G WF (some (mI r)) d m 0 0) m d o) (fun q => q = r)) x) : V w l WF G (QM w G WF (some (mI r)) d m 0 0) d m 0 0 26 [mA o, mU, mI v2] [mI s1, mI s0] := by
  unfold fX8_inMany_26 at h
  refine v_iadd F dX8_inMany_26 ?_
  obtain ⟨x5, ex5, h⟩ := lv_some h
  refine v_nI ex5 ?_
  refine v_istore_n F dX8_inMany_27 rfl (Nat.le_of_ble_eq_true rfl) (L' := [mA o, mI x5, mI v2]) rfl ?_
  obtain ⟨x6, ex6, h⟩ := lv_some h
  refine v_iincN F dX8_inMany_28 (Nat.le_of_ble_eq_true rfl) rfl ex6 (L' := [mA o, mI x5, mI x6]) rfl ?_
  refine v_goto F dX8_inMany_31 rfl ?_
  cases h
  exact K
theorem fX8_inMany_4f_ok {w : Wd} {l : Launch} {G : Cx} {d m dd : Dt} {o : Int} {r : Int} {s : Int × Int} {x : ((Int × Int) ⊕ Int)} (F : Fx w G cX8_inMany RX8 3 (some .int) { frames := 1, cells := 0, slots := 0, locals := 21 }) (hX : WF dd m) (hp : PB m o 8) (h : fX8_inMany_4f d o s = some x) (K : (Sum.elim (fX8_inMany_4P w l G (QM w G WF (some (mI r)) d m 0 0) m d o) (fun q => q = r)) x) : V w l WF G (QM w G WF (some (mI r)) d m 0 0) d m 0 0 4 [mA o, mI (s.1), mI (s.2)] [] := by
  obtain ⟨v1, v2⟩ := s
  unfold fX8_inMany_4f at h
  dsimp only at h
  refine v_iload_n F dX8_inMany_4 rfl rfl ?_
  refine v_aload_n F dX8_inMany_5 rfl rfl ?_
  refine gf_X8_148 F dX8_inMany_6 hp ?_
  refine v_icmp_ge F dX8_inMany_9 rfl (fun hq1 => ?_) (fun hq1 => ?_)
  · rw [if_pos hq1] at h
    obtain ⟨z, hu, ez⟩ := up_some h
    clear h
    subst ez
    have h := hu
    clear hu
    refine v_iload_n F dX8_inMany_34 rfl rfl ?_
    cases h
    cases (show _ = r from K)
    exact v_iret F dX8_inMany_35
  · rw [if_neg hq1] at h
    refine v_iload_n F dX8_inMany_12 rfl rfl ?_
    refine v_aload_n F dX8_inMany_13 rfl rfl ?_
    refine v_iload_n F dX8_inMany_14 rfl rfl ?_
    obtain ⟨x2, hc3, h⟩ := b1_some h
    refine v_callVv (c := 8) F dX8_inMany_15 cv_X8_209 rfl (PB.ob hp hX (Nat.le_of_ble_eq_true rfl)) (Nat.le_of_ble_eq_true rfl) rfl (vm_X8_isIn hp hc3) rfl (rOk.of rfl) ?_
    refine v_if_eq F dX8_inMany_18 rfl (fun hq4 => ?_) (fun hq4 => ?_)
    · rw [if_pos hq4] at h
      refine v_iconst F dX8_inMany_25 ⟨by decide, by decide⟩ ?_
      refine v_fgt (L' := [mA o, mU, mI v2]) ⟨Or.inl rfl, Or.inr rfl, Or.inl rfl, trivial⟩ ?_
      exact fX8_inMany_26_ok F hX hp h K
    · rw [if_neg hq4] at h
      refine v_iconst F dX8_inMany_21 ⟨by decide, by decide⟩ ?_
      refine v_goto F dX8_inMany_22 rfl ?_
      refine v_fgt (L' := [mA o, mU, mI v2]) ⟨Or.inl rfl, Or.inr rfl, Or.inl rfl, trivial⟩ ?_
      exact fX8_inMany_26_ok F hX hp h K
theorem fX8_inMany_4_ok {w : Wd} {l : Launch} {G : Cx} {d m dd : Dt} {o v1 v2 : Int} {r : Int} {x : Int} (F : Fx w G cX8_inMany RX8 3 (some .int) { frames := 1, cells := 0, slots := 0, locals := 21 }) (hX : WF dd m) (hp : PB m o 8) (h : fX8_inMany_4 d o v1 v2 = some x) (K : (fun q => q = r) x) : V w l WF G (QM w G WF (some (mI r)) d m 0 0) d m 0 0 4 [mA o, mI v1, mI v2] [] := by
  unfold fX8_inMany_4 at h
  exact loop_ok (P := fX8_inMany_4P w l G (QM w G WF (some (mI r)) d m 0 0) m d o) (fun s x hx h1 h2 => fX8_inMany_4f_ok F hX hp hx (by
    cases x with
    | inl s' => exact h1 s' rfl
    | inr z => cases h2 z rfl; exact K)) h
theorem vm_X8_inMany {w : Wd} {l : Launch} {d m : Dt} {o : Int} {r : Int} (hp : PB m o 8) (h : fX8_inMany d o = some r) : VM w l WF yX8_inMany cX8_inMany 3 (some .int) 1 21 0 0 d m [mA o] (some (mI r)) d m := by
  obtain ⟨x, h, K⟩ : ∃ x, fX8_inMany d o = some x ∧ x = r := ⟨_, h, rfl⟩
  refine VM.of (L := [mA o, mU, mU]) (by decide +kernel) rfl (Nat.le_of_ble_eq_true rfl) fun G F _ => v_fact fun _ hX _ _ => ?_
  unfold fX8_inMany at h
  refine v_iconst F dX8_inMany_0 ⟨by decide, by decide⟩ ?_
  refine v_istore_n F dX8_inMany_1 rfl (Nat.le_of_ble_eq_true rfl) (L' := [mA o, mI 0, mU]) rfl ?_
  refine v_iconst F dX8_inMany_2 ⟨by decide, by decide⟩ ?_
  refine v_istore_n F dX8_inMany_3 rfl (Nat.le_of_ble_eq_true rfl) (L' := [mA o, mI 0, mI 0]) rfl ?_
  exact fX8_inMany_4_ok F hX hp h K
def fX8_isMore_7P (w : Wd) (l : Launch) (G : Cx) (Q : State → Prop) (m : Dt) (d : Dt) (o a1 a2 : Int) (s : Int) : Prop := V w l WF G Q d m 0 0 7 [mA o, mI a1, mI a2, mI (s)] []
theorem fX8_isMore_7f_ok {w : Wd} {l : Launch} {G : Cx} {d m dd : Dt} {o a1 a2 : Int} {r : Int} {s : Int} {x : ((Int) ⊕ Int)} (F : Fx w G cX8_isMore RX8 4 (some .boolean) { frames := 0, cells := 0, slots := 0, locals := 0 }) (hX : WF dd m) (hp : PB m o 8) (h : fX8_isMore_7f d o a1 a2 s = some x) (K : (Sum.elim (fX8_isMore_7P w l G (QM w G WF (some (mI r)) d m 0 0) m d o a1 a2) (fun q => q = r)) x) : V w l WF G (QM w G WF (some (mI r)) d m 0 0) d m 0 0 7 [mA o, mI a1, mI a2, mI (s)] [] := by
  obtain ⟨v3, rfl⟩ : ∃ z, z = s := ⟨s, rfl⟩
  unfold fX8_isMore_7f at h
  dsimp only at h
  refine v_iload_n F dX8_isMore_7 rfl rfl ?_
  refine v_if_lt F dX8_isMore_8 rfl (fun hq2 => ?_) (fun hq2 => ?_)
  · rw [if_pos hq2] at h
    obtain ⟨z, hu, ez⟩ := up_some h
    clear h
    subst ez
    have h := hu
    clear hu
    refine v_iconst F dX8_isMore_63 ⟨by decide, by decide⟩ ?_
    cases h
    cases (show _ = r from K)
    exact v_zret F (Or.inl rfl) dX8_isMore_64
  · rw [if_neg hq2] at h
    refine v_aload_n F dX8_isMore_11 rfl rfl ?_
    refine gf_X8_39 F dX8_isMore_12 hp (v := (o + 127)) rfl ?_
    refine v_iload_n F dX8_isMore_15 rfl rfl ?_
    obtain ⟨hi3, h⟩ := ck_some h
    refine v_aaldF (c := 8) (k := 14) F dX8_isMore_16 hp (Nat.le_of_ble_eq_true rfl) (Nat.le_of_ble_eq_true rfl) (by decide) (by decide) rfl (ar_X8_14 hX hp) (Nat.le_of_ble_eq_true rfl) rfl rfl rfl rfl hi3 (v := ((o + 128) + v3)) (by show o + 128 + 1 * v3 = _; omega) ?_
    refine v_iload_n F dX8_isMore_17 rfl rfl ?_
    obtain ⟨hi4, h⟩ := ck_some h
    refine v_lald F dX8_isMore_18 (ae_X8_14 (i := v3) hX hp hi3 (v := ((o + 128) + v3)) (by omega)) hi4 ?_
    refine v_aload_n F dX8_isMore_19 rfl rfl ?_
    refine gf_X8_39 F dX8_isMore_20 hp (v := (o + 127)) rfl ?_
    refine v_iload_n F dX8_isMore_23 rfl rfl ?_
    refine v_aaldF (c := 8) (k := 14) F dX8_isMore_24 hp (Nat.le_of_ble_eq_true rfl) (Nat.le_of_ble_eq_true rfl) (by decide) (by decide) rfl (ar_X8_14 hX hp) (Nat.le_of_ble_eq_true rfl) rfl rfl rfl rfl hi3 (v := ((o + 128) + v3)) (by show o + 128 + 1 * v3 = _; omega) ?_
    refine v_iload_n F dX8_isMore_25 rfl rfl ?_
    obtain ⟨hi5, h⟩ := ck_some h
    refine v_lald F dX8_isMore_26 (ae_X8_14 (i := v3) hX hp hi3 (v := ((o + 128) + v3)) (by omega)) hi5 ?_
    refine v_lcmp F dX8_isMore_27 ?_
    refine v_if_eq F dX8_isMore_28 rfl (fun hq6 => ?_) (fun hq6 => ?_)
    · rw [if_pos hq6] at h
      obtain ⟨x7, ex7, h⟩ := lv_some h
      refine v_iincN F dX8_isMore_57 (Nat.le_of_ble_eq_true rfl) rfl ex7 (L' := [mA o, mI a1, mI a2, mI x7]) rfl ?_
      refine v_goto F dX8_isMore_60 rfl ?_
      cases h
      exact K
    · rw [if_neg hq6] at h
      obtain ⟨z, hu, ez⟩ := up_some h
      clear h
      subst ez
      have h := hu
      clear hu
      refine v_aload_n F dX8_isMore_31 rfl rfl ?_
      refine gf_X8_39 F dX8_isMore_32 hp (v := (o + 127)) rfl ?_
      refine v_iload_n F dX8_isMore_35 rfl rfl ?_
      refine v_aaldF (c := 8) (k := 14) F dX8_isMore_36 hp (Nat.le_of_ble_eq_true rfl) (Nat.le_of_ble_eq_true rfl) (by decide) (by decide) rfl (ar_X8_14 hX hp) (Nat.le_of_ble_eq_true rfl) rfl rfl rfl rfl hi3 (v := ((o + 128) + v3)) (by show o + 128 + 1 * v3 = _; omega) ?_
      refine v_iload_n F dX8_isMore_37 rfl rfl ?_
      refine v_lald F dX8_isMore_38 (ae_X8_14 (i := v3) hX hp hi3 (v := ((o + 128) + v3)) (by omega)) hi4 ?_
      refine v_aload_n F dX8_isMore_39 rfl rfl ?_
      refine gf_X8_39 F dX8_isMore_40 hp (v := (o + 127)) rfl ?_
      refine v_iload_n F dX8_isMore_43 rfl rfl ?_
      refine v_aaldF (c := 8) (k := 14) F dX8_isMore_44 hp (Nat.le_of_ble_eq_true rfl) (Nat.le_of_ble_eq_true rfl) (by decide) (by decide) rfl (ar_X8_14 hX hp) (Nat.le_of_ble_eq_true rfl) rfl rfl rfl rfl hi3 (v := ((o + 128) + v3)) (by show o + 128 + 1 * v3 = _; omega) ?_
      refine v_iload_n F dX8_isMore_45 rfl rfl ?_
      refine v_lald F dX8_isMore_46 (ae_X8_14 (i := v3) hX hp hi3 (v := ((o + 128) + v3)) (by omega)) hi5 ?_
      refine v_lcmp F dX8_isMore_47 ?_
      refine v_if_le F dX8_isMore_48 rfl (fun hq8 => ?_) (fun hq8 => ?_)
      · rw [if_pos hq8] at h
        refine v_iconst F dX8_isMore_55 ⟨by decide, by decide⟩ ?_
        cases h
        cases (show _ = r from K)
        exact v_zret F (Or.inl rfl) dX8_isMore_56
      · rw [if_neg hq8] at h
        refine v_iconst F dX8_isMore_51 ⟨by decide, by decide⟩ ?_
        refine v_goto F dX8_isMore_52 rfl ?_
        cases h
        cases (show _ = r from K)
        exact v_zret F (Or.inr rfl) dX8_isMore_56
theorem fX8_isMore_7_ok {w : Wd} {l : Launch} {G : Cx} {d m dd : Dt} {o a1 a2 v3 : Int} {r : Int} {x : Int} (F : Fx w G cX8_isMore RX8 4 (some .boolean) { frames := 0, cells := 0, slots := 0, locals := 0 }) (hX : WF dd m) (hp : PB m o 8) (h : fX8_isMore_7 d o a1 a2 v3 = some x) (K : (fun q => q = r) x) : V w l WF G (QM w G WF (some (mI r)) d m 0 0) d m 0 0 7 [mA o, mI a1, mI a2, mI v3] [] := by
  unfold fX8_isMore_7 at h
  exact loop_ok (P := fX8_isMore_7P w l G (QM w G WF (some (mI r)) d m 0 0) m d o a1 a2) (fun s x hx h1 h2 => fX8_isMore_7f_ok F hX hp hx (by
    cases x with
    | inl s' => exact h1 s' rfl
    | inr z => cases h2 z rfl; exact K)) h
theorem vm_X8_isMore {w : Wd} {l : Launch} {d m : Dt} {o a1 a2 : Int} {r : Int} (hp : PB m o 8) (h : fX8_isMore d o a1 a2 = some r) : VM w l WF yX8_isMore cX8_isMore 4 (some .boolean) 0 0 0 0 d m [mA o, mI a1, mI a2] (some (mI r)) d m := by
  obtain ⟨x, h, K⟩ : ∃ x, fX8_isMore d o a1 a2 = some x ∧ x = r := ⟨_, h, rfl⟩
  refine VM.of (L := [mA o, mI a1, mI a2, mU]) (by decide +kernel) rfl (Nat.le_of_ble_eq_true rfl) fun G F _ => v_fact fun _ hX _ _ => ?_
  unfold fX8_isMore at h
  refine v_aload_n F dX8_isMore_0 rfl rfl ?_
  refine gf_X8_164 F dX8_isMore_1 hp ?_
  refine v_iconst F dX8_isMore_4 ⟨by decide, by decide⟩ ?_
  refine v_isub F dX8_isMore_5 ?_
  obtain ⟨x1, ex1, h⟩ := lv_some h
  refine v_nI ex1 ?_
  refine v_istore_n F dX8_isMore_6 rfl (Nat.le_of_ble_eq_true rfl) (L' := [mA o, mI a1, mI a2, mI x1]) rfl ?_
  exact fX8_isMore_7_ok F hX hp h K
def fX8_fewest_4P (w : Wd) (l : Launch) (G : Cx) (Q : State → Prop) (m : Dt) (d : Dt) (o : Int) (s : Int × Int) : Prop := V w l WF G Q d m 0 0 4 [mA o, mI (s.1), mI (s.2), mU] []
theorem fX8_fewest_4f_ok {w : Wd} {l : Launch} {G : Cx} {d m dd : Dt} {o : Int} {r : Int} {s : Int × Int} {x : ((Int × Int) ⊕ Int)} (F : Fx w G cX8_fewest RX8 4 (some .int) { frames := 1, cells := 0, slots := 0, locals := 23 }) (hX : WF dd m) (hp : PB m o 8) (h : fX8_fewest_4f d o s = some x) (K : (Sum.elim (fX8_fewest_4P w l G (QM w G WF (some (mI r)) d m 0 0) m d o) (fun q => q = r)) x) : V w l WF G (QM w G WF (some (mI r)) d m 0 0) d m 0 0 4 [mA o, mI (s.1), mI (s.2), mU] [] := by
  obtain ⟨v1, v2⟩ := s
  unfold fX8_fewest_4f at h
  dsimp only at h
  refine v_iload_n F dX8_fewest_4 rfl rfl ?_
  refine v_aload_n F dX8_fewest_5 rfl rfl ?_
  refine gf_X8_148 F dX8_fewest_6 hp ?_
  refine v_icmp_ge F dX8_fewest_9 rfl (fun hq1 => ?_) (fun hq1 => ?_)
  · rw [if_pos hq1] at h
    obtain ⟨z, hu, ez⟩ := up_some h
    clear h
    subst ez
    have h := hu
    clear hu
    refine v_iload_n F dX8_fewest_52 rfl rfl ?_
    cases h
    cases (show _ = r from K)
    exact v_iret F dX8_fewest_53
  · rw [if_neg hq1] at h
    refine v_aload_n F dX8_fewest_12 rfl rfl ?_
    obtain ⟨x2, ex2, h⟩ := lv_some h
    obtain ⟨hn4, h⟩ := ck_some h
    refine gf_X8_135 F dX8_fewest_13 hp ex2 fun hr3 => ?_
    have x2p := hr3.resolve_left hn4
    refine gf_X8_212 F dX8_fewest_16 x2p (v := (x2 + 6)) rfl ?_
    refine v_iload_n F dX8_fewest_19 rfl rfl ?_
    obtain ⟨hi5, h⟩ := ck_some h
    refine v_iald F dX8_fewest_20 (ar_X9_7 hX x2p) hi5 ?_
    obtain ⟨x6, ex6, h⟩ := lv_some h
    refine v_nI ex6 ?_
    refine v_istore_n F dX8_fewest_21 rfl (Nat.le_of_ble_eq_true rfl) (L' := [mA o, mI v1, mI v2, mI x6]) rfl ?_
    refine v_aload_n F dX8_fewest_22 rfl rfl ?_
    refine v_iload_n F dX8_fewest_23 rfl rfl ?_
    obtain ⟨x7, hc8, h⟩ := b1_some h
    refine v_callVv (c := 8) F dX8_fewest_24 cv_X8_209 rfl (PB.ob hp hX (Nat.le_of_ble_eq_true rfl)) (Nat.le_of_ble_eq_true rfl) rfl (vm_X8_isIn hp hc8) rfl (rOk.of rfl) ?_
    refine v_if_eq F dX8_fewest_27 rfl (fun hq9 => ?_) (fun hq9 => ?_)
    · rw [if_pos hq9] at h
      obtain ⟨x10, ex10, h⟩ := lv_some h
      refine v_iincN F dX8_fewest_46 (Nat.le_of_ble_eq_true rfl) rfl ex10 (L' := [mA o, mI v1, mI x10, mI x6]) rfl ?_
      refine v_goto F dX8_fewest_49 rfl ?_
      cases h
      refine v_fgt (L' := [mA o, mI v1, mI x10, mU]) ⟨Or.inl rfl, Or.inl rfl, Or.inl rfl, Or.inr rfl, trivial⟩ ?_
      exact K
    · rw [if_neg hq9] at h
      refine v_iload_n F dX8_fewest_30 rfl rfl ?_
      refine v_iconst F dX8_fewest_31 ⟨by decide, by decide⟩ ?_
      refine v_icmp_eq F dX8_fewest_32 rfl (fun hq11 => ?_) (fun hq11 => ?_)
      · rw [if_pos hq11] at h
        refine v_iload_n F dX8_fewest_44 rfl rfl ?_
        refine v_istore_n F dX8_fewest_45 rfl (Nat.le_of_ble_eq_true rfl) (L' := [mA o, mI x6, mI v2, mI x6]) rfl ?_
        obtain ⟨x12, ex12, h⟩ := lv_some h
        refine v_iincN F dX8_fewest_46 (Nat.le_of_ble_eq_true rfl) rfl ex12 (L' := [mA o, mI x6, mI x12, mI x6]) rfl ?_
        refine v_goto F dX8_fewest_49 rfl ?_
        cases h
        refine v_fgt (L' := [mA o, mI x6, mI x12, mU]) ⟨Or.inl rfl, Or.inl rfl, Or.inl rfl, Or.inr rfl, trivial⟩ ?_
        exact K
      · rw [if_neg hq11] at h
        refine v_aload_n F dX8_fewest_35 rfl rfl ?_
        refine v_iload_n F dX8_fewest_36 rfl rfl ?_
        refine v_iload_n F dX8_fewest_37 rfl rfl ?_
        obtain ⟨x13, hc14, h⟩ := b1_some h
        refine v_callVv (c := 8) F dX8_fewest_38 cv_X8_231 rfl (PB.ob hp hX (Nat.le_of_ble_eq_true rfl)) (Nat.le_of_ble_eq_true rfl) rfl (vm_X8_isMore hp hc14) rfl (rOk.of rfl) ?_
        refine v_if_ne F dX8_fewest_41 rfl (fun hq15 => ?_) (fun hq15 => ?_)
        · rw [if_neg hq15] at h
          obtain ⟨x16, ex16, h⟩ := lv_some h
          refine v_iincN F dX8_fewest_46 (Nat.le_of_ble_eq_true rfl) rfl ex16 (L' := [mA o, mI v1, mI x16, mI x6]) rfl ?_
          refine v_goto F dX8_fewest_49 rfl ?_
          cases h
          refine v_fgt (L' := [mA o, mI v1, mI x16, mU]) ⟨Or.inl rfl, Or.inl rfl, Or.inl rfl, Or.inr rfl, trivial⟩ ?_
          exact K
        · rw [if_pos hq15] at h
          refine v_iload_n F dX8_fewest_44 rfl rfl ?_
          refine v_istore_n F dX8_fewest_45 rfl (Nat.le_of_ble_eq_true rfl) (L' := [mA o, mI x6, mI v2, mI x6]) rfl ?_
          obtain ⟨x17, ex17, h⟩ := lv_some h
          refine v_iincN F dX8_fewest_46 (Nat.le_of_ble_eq_true rfl) rfl ex17 (L' := [mA o, mI x6, mI x17, mI x6]) rfl ?_
          refine v_goto F dX8_fewest_49 rfl ?_
          cases h
          refine v_fgt (L' := [mA o, mI x6, mI x17, mU]) ⟨Or.inl rfl, Or.inl rfl, Or.inl rfl, Or.inr rfl, trivial⟩ ?_
          exact K
theorem fX8_fewest_4_ok {w : Wd} {l : Launch} {G : Cx} {d m dd : Dt} {o v1 v2 : Int} {r : Int} {x : Int} (F : Fx w G cX8_fewest RX8 4 (some .int) { frames := 1, cells := 0, slots := 0, locals := 23 }) (hX : WF dd m) (hp : PB m o 8) (h : fX8_fewest_4 d o v1 v2 = some x) (K : (fun q => q = r) x) : V w l WF G (QM w G WF (some (mI r)) d m 0 0) d m 0 0 4 [mA o, mI v1, mI v2, mU] [] := by
  unfold fX8_fewest_4 at h
  exact loop_ok (P := fX8_fewest_4P w l G (QM w G WF (some (mI r)) d m 0 0) m d o) (fun s x hx h1 h2 => fX8_fewest_4f_ok F hX hp hx (by
    cases x with
    | inl s' => exact h1 s' rfl
    | inr z => cases h2 z rfl; exact K)) h
theorem vm_X8_fewest {w : Wd} {l : Launch} {d m : Dt} {o : Int} {r : Int} (hp : PB m o 8) (h : fX8_fewest d o = some r) : VM w l WF yX8_fewest cX8_fewest 4 (some .int) 1 23 0 0 d m [mA o] (some (mI r)) d m := by
  obtain ⟨x, h, K⟩ : ∃ x, fX8_fewest d o = some x ∧ x = r := ⟨_, h, rfl⟩
  refine VM.of (L := [mA o, mU, mU, mU]) (by decide +kernel) rfl (Nat.le_of_ble_eq_true rfl) fun G F _ => v_fact fun _ hX _ _ => ?_
  unfold fX8_fewest at h
  refine v_iconst F dX8_fewest_0 ⟨by decide, by decide⟩ ?_
  refine v_istore_n F dX8_fewest_1 rfl (Nat.le_of_ble_eq_true rfl) (L' := [mA o, mI (-1), mU, mU]) rfl ?_
  refine v_iconst F dX8_fewest_2 ⟨by decide, by decide⟩ ?_
  refine v_istore_n F dX8_fewest_3 rfl (Nat.le_of_ble_eq_true rfl) (L' := [mA o, mI (-1), mI 0, mU]) rfl ?_
  exact fX8_fewest_4_ok F hX hp h K
theorem vm_X8_act {w : Wd} {l : Launch} {d m : Dt} {o a1 a2 : Int} {d' : Dt} (hp : PB m o 8) (h : fX8_act d o a1 a2 = some d') : VM w l WF yX8_act cX8_act 3 none 0 0 0 0 d m [mA o, mI a1, mI a2] none d' m := by
  obtain ⟨x, h, K⟩ : ∃ x, fX8_act d o a1 a2 = some x ∧ x = d' := ⟨_, h, rfl⟩
  refine VM.of (L := [mA o, mI a1, mI a2]) (by decide +kernel) rfl (Nat.le_of_ble_eq_true rfl) fun G F _ => v_fact fun _ hX _ _ => ?_
  unfold fX8_act at h
  refine v_aload_n F dX8_act_0 rfl rfl ?_
  refine gf_X8_42 F dX8_act_1 hp (v := (o + 168)) rfl ?_
  refine v_aload_n F dX8_act_4 rfl rfl ?_
  refine gf_X8_164 F dX8_act_5 hp ?_
  refine v_iconst F dX8_act_8 ⟨by decide, by decide⟩ ?_
  refine v_isub F dX8_act_9 ?_
  refine v_iload_n F dX8_act_10 rfl rfl ?_
  obtain ⟨x1, ex1, h⟩ := lv_some h
  refine v_n2 ex1 ?_
  obtain ⟨hi2, h⟩ := ck_some h
  obtain ⟨d3, ed3, h⟩ := sd_some h
  refine v_iast F dX8_act_11 (ar_X8_15 hX hp) hi2 ?_
  refine v_nD ed3 ?_
  refine v_aload_n F dX8_act_12 rfl rfl ?_
  refine gf_X8_45 F dX8_act_13 hp (v := (o + 169)) rfl ?_
  refine v_aload_n F dX8_act_16 rfl rfl ?_
  refine gf_X8_164 F dX8_act_17 hp ?_
  refine v_iconst F dX8_act_20 ⟨by decide, by decide⟩ ?_
  refine v_isub F dX8_act_21 ?_
  refine v_iload_n F dX8_act_22 rfl rfl ?_
  obtain ⟨x4, ex4, h⟩ := lv_some h
  refine v_n2 ex4 ?_
  obtain ⟨hi5, h⟩ := ck_some h
  obtain ⟨d6, ed6, h⟩ := sd_some h
  refine v_iast F dX8_act_23 (ar_X8_16 hX hp) hi5 ?_
  refine v_nD ed6 ?_
  cases h
  cases (show _ = d' from K)
  exact v_vret F dX8_act_24
theorem vm_X8_goes {w : Wd} {l : Launch} {d m : Dt} {o a1 : Int} {d' : Dt} (hp : PB m o 8) (h : fX8_goes d o a1 = some d') : VM w l WF yX8_goes cX8_goes 2 none 1 22 0 0 d m [mA o, mI a1] none d' m := by
  obtain ⟨x, h, K⟩ : ∃ x, fX8_goes d o a1 = some x ∧ x = d' := ⟨_, h, rfl⟩
  refine VM.of (L := [mA o, mI a1]) (by decide +kernel) rfl (Nat.le_of_ble_eq_true rfl) fun G F _ => v_fact fun _ hX _ _ => ?_
  unfold fX8_goes at h
  refine v_aload_n F dX8_goes_0 rfl rfl ?_
  refine gf_X8_54 F dX8_goes_1 hp (v := (o + 172)) rfl ?_
  refine v_iload_n F dX8_goes_4 rfl rfl ?_
  refine v_iconst F dX8_goes_5 ⟨by decide, by decide⟩ ?_
  obtain ⟨hi1, h⟩ := ck_some h
  obtain ⟨d2, ed2, h⟩ := sd_some h
  refine v_zast F dX8_goes_6 (ar_X8_21 hX hp) hi1 ?_
  refine v_nD ed2 ?_
  refine v_aload_n F dX8_goes_7 rfl rfl ?_
  refine v_iconst F dX8_goes_8 ⟨by decide, by decide⟩ ?_
  refine v_iload_n F dX8_goes_9 rfl rfl ?_
  obtain ⟨d3, hc4, h⟩ := bd_some h
  refine v_callV0 (c := 8) F dX8_goes_10 cv_X8_235 rfl (PB.ob hp hX (Nat.le_of_ble_eq_true rfl)) (Nat.le_of_ble_eq_true rfl) rfl (vm_X8_act hp hc4) rfl (rOk.of rfl) ?_
  cases h
  cases (show _ = d' from K)
  exact v_vret F dX8_goes_13
def fX8_byLeaving_6P (w : Wd) (l : Launch) (G : Cx) (Q : State → Prop) (m : Dt) (o : Int) (s : Dt × Int) : Prop := V w l WF G Q s.1 m 0 0 6 [mA o, mI (s.2), mU] []
theorem fX8_byLeaving_37_ok {w : Wd} {l : Launch} {G : Cx} {d m dd : Dt} {o s0 : Int} {d' : Dt} {x : ((Dt × Int) ⊕ Dt)} (F : Fx w G cX8_byLeaving RX8 3 none { frames := 3, cells := 0, slots := 0, locals := 70 }) (hX : WF dd m) (hp : PB m o 8) (h : fX8_byLeaving_37 d o s0 = some x) (K : (Sum.elim (fX8_byLeaving_6P w l G (QM w G WF none d' m 0 0) m o) (fun q => q = d')) x) : V w l WF G (QM w G WF none d' m 0 0) d m 0 0 37 [mA o, mU, mU] [mI s0] := by
  unfold fX8_byLeaving_37 at h
  refine v_istore_n F dX8_byLeaving_37 rfl (Nat.le_of_ble_eq_true rfl) (L' := [mA o, mI s0, mU]) rfl ?_
  refine v_iload_n F dX8_byLeaving_38 rfl rfl ?_
  refine v_if_eq F dX8_byLeaving_39 rfl (fun hq17 => ?_) (fun hq17 => ?_)
  · rw [if_pos hq17] at h
    cases h
    exact K
  · rw [if_neg hq17] at h
    refine v_aload_n F dX8_byLeaving_42 rfl rfl ?_
    refine v_aload_n F dX8_byLeaving_43 rfl rfl ?_
    obtain ⟨x18, hc19, h⟩ := b1_some h
    refine v_callVv (c := 8) F dX8_byLeaving_44 cv_X8_269 rfl (PB.ob hp hX (Nat.le_of_ble_eq_true rfl)) (Nat.le_of_ble_eq_true rfl) rfl (vm_X8_fewest hp hc19) rfl (rOk.of rfl) ?_
    obtain ⟨d20, hc21, h⟩ := bd_some h
    refine v_callV0 (c := 8) F dX8_byLeaving_47 cv_X8_272 rfl (PB.ob hp hX (Nat.le_of_ble_eq_true rfl)) (Nat.le_of_ble_eq_true rfl) rfl (vm_X8_goes hp hc21) rfl (rOk.of rfl) ?_
    refine v_goto F dX8_byLeaving_50 rfl ?_
    cases h
    exact K
theorem fX8_byLeaving_6f_ok {w : Wd} {l : Launch} {G : Cx} {m dd : Dt} {o : Int} {d' : Dt} {s : Dt × Int} {x : ((Dt × Int) ⊕ Dt)} (F : Fx w G cX8_byLeaving RX8 3 none { frames := 3, cells := 0, slots := 0, locals := 70 }) (hX : WF dd m) (hp : PB m o 8) (h : fX8_byLeaving_6f o s = some x) (K : (Sum.elim (fX8_byLeaving_6P w l G (QM w G WF none d' m 0 0) m o) (fun q => q = d')) x) : V w l WF G (QM w G WF none d' m 0 0) s.1 m 0 0 6 [mA o, mI (s.2), mU] [] := by
  obtain ⟨d, v1⟩ := s
  unfold fX8_byLeaving_6f at h
  dsimp only at h
  refine v_iload_n F dX8_byLeaving_6 rfl rfl ?_
  refine v_if_eq F dX8_byLeaving_7 rfl (fun hq3 => ?_) (fun hq3 => ?_)
  · rw [if_pos hq3] at h
    obtain ⟨z, hu, ez⟩ := up_some h
    clear h
    subst ez
    have h := hu
    clear hu
    refine v_aload_n F dX8_byLeaving_53 rfl rfl ?_
    refine v_lconst0 F dX8_byLeaving_54 ?_
    obtain ⟨d4, x6, hc5, h⟩ := b2_some h
    refine v_callVv (c := 8) F dX8_byLeaving_55 cv_X8_227 rfl (PB.ob hp hX (Nat.le_of_ble_eq_true rfl)) (Nat.le_of_ble_eq_true rfl) rfl (vm_X8_electAll hp hc5) rfl (rOk.of rfl) ?_
    refine v_istore_n F dX8_byLeaving_58 rfl (Nat.le_of_ble_eq_true rfl) (L' := [mA o, mI v1, mI x6]) rfl ?_
    cases h
    cases (show _ = d' from K)
    exact v_vret F dX8_byLeaving_59
  · rw [if_neg hq3] at h
    refine v_aload_n F dX8_byLeaving_10 rfl rfl ?_
    obtain ⟨d7, hc8, h⟩ := bd_some h
    refine v_callV0 (c := 8) F dX8_byLeaving_11 cv_X8_266 rfl (PB.ob hp hX (Nat.le_of_ble_eq_true rfl)) (Nat.le_of_ble_eq_true rfl) rfl (vm_X8_firsts hp hc8) rfl (rOk.of rfl) ?_
    refine v_aload_n F dX8_byLeaving_14 rfl rfl ?_
    obtain ⟨d9, hc10, h⟩ := bd_some h
    refine v_callV0 (c := 8) F dX8_byLeaving_15 cv_X8_254 rfl (PB.ob hp hX (Nat.le_of_ble_eq_true rfl)) (Nat.le_of_ble_eq_true rfl) rfl (vm_X8_tell hp hc10) rfl (rOk.of rfl) ?_
    refine v_aload_n F dX8_byLeaving_18 rfl rfl ?_
    obtain ⟨x11, hc12, h⟩ := b1_some h
    refine v_callVv (c := 8) F dX8_byLeaving_19 cv_X8_223 rfl (PB.ob hp hX (Nat.le_of_ble_eq_true rfl)) (Nat.le_of_ble_eq_true rfl) rfl (vm_X8_inMany hp hc12) rfl (rOk.of rfl) ?_
    refine v_aload_n F dX8_byLeaving_22 rfl rfl ?_
    obtain ⟨x13, ex13, h⟩ := lv_some h
    obtain ⟨hn15, h⟩ := ck_some h
    refine gf_X8_131 F dX8_byLeaving_23 hp ex13 fun hr14 => ?_
    have x13p := hr14.resolve_left hn15
    refine gf_X8_185 F dX8_byLeaving_26 x13p ?_
    refine v_icmp_le F dX8_byLeaving_29 rfl (fun hq16 => ?_) (fun hq16 => ?_)
    · rw [if_pos hq16] at h
      refine v_iconst F dX8_byLeaving_36 ⟨by decide, by decide⟩ ?_
      refine v_fgt (L' := [mA o, mU, mU]) ⟨Or.inl rfl, Or.inr rfl, Or.inl rfl, trivial⟩ ?_
      exact fX8_byLeaving_37_ok F hX hp h K
    · rw [if_neg hq16] at h
      refine v_iconst F dX8_byLeaving_32 ⟨by decide, by decide⟩ ?_
      refine v_goto F dX8_byLeaving_33 rfl ?_
      refine v_fgt (L' := [mA o, mU, mU]) ⟨Or.inl rfl, Or.inr rfl, Or.inl rfl, trivial⟩ ?_
      exact fX8_byLeaving_37_ok F hX hp h K
theorem fX8_byLeaving_6_ok {w : Wd} {l : Launch} {G : Cx} {d m dd : Dt} {o v1 : Int} {d' : Dt} {x : Dt} (F : Fx w G cX8_byLeaving RX8 3 none { frames := 3, cells := 0, slots := 0, locals := 70 }) (hX : WF dd m) (hp : PB m o 8) (h : fX8_byLeaving_6 d o v1 = some x) (K : (fun q => q = d') x) : V w l WF G (QM w G WF none d' m 0 0) d m 0 0 6 [mA o, mI v1, mU] [] := by
  unfold fX8_byLeaving_6 at h
  exact loop_ok (P := fX8_byLeaving_6P w l G (QM w G WF none d' m 0 0) m o) (fun s x hx h1 h2 => fX8_byLeaving_6f_ok F hX hp hx (by
    cases x with
    | inl s' => exact h1 s' rfl
    | inr z => cases h2 z rfl; exact K)) h
theorem vm_X8_byLeaving {w : Wd} {l : Launch} {d m : Dt} {o : Int} {d' : Dt} (hp : PB m o 8) (h : fX8_byLeaving d o = some d') : VM w l WF yX8_byLeaving cX8_byLeaving 3 none 3 70 0 0 d m [mA o] none d' m := by
  obtain ⟨x, h, K⟩ : ∃ x, fX8_byLeaving d o = some x ∧ x = d' := ⟨_, h, rfl⟩
  refine VM.of (L := [mA o, mU, mU]) (by decide +kernel) rfl (Nat.le_of_ble_eq_true rfl) fun G F _ => v_fact fun _ hX _ _ => ?_
  unfold fX8_byLeaving at h
  refine v_aload_n F dX8_byLeaving_0 rfl rfl ?_
  obtain ⟨d1, hc2, h⟩ := bd_some h
  refine v_callV0 (c := 8) F dX8_byLeaving_1 cv_X8_239 rfl (PB.ob hp hX (Nat.le_of_ble_eq_true rfl)) (Nat.le_of_ble_eq_true rfl) rfl (vm_X8_rankAll hp hc2) rfl (rOk.of rfl) ?_
  refine v_iconst F dX8_byLeaving_4 ⟨by decide, by decide⟩ ?_
  refine v_istore_n F dX8_byLeaving_5 rfl (Nat.le_of_ble_eq_true rfl) (L' := [mA o, mI 1, mU]) rfl ?_
  exact fX8_byLeaving_6_ok F hX hp h K
theorem vm_X8_up {w : Wd} {l : Launch} {X : Dt → Dt → Prop} {d m : Dt} {a1 a2 a3 : Int} {r : Int} (h : fX8_up a1 a2 a3 = some r) : VM w l X yX8_up cX8_up 6 (some .long) 0 0 0 0 d m [mL a1, mL a2, mL a3] (some (mL r)) d m := by
  obtain ⟨x, h, K⟩ : ∃ x, fX8_up a1 a2 a3 = some x ∧ x = r := ⟨_, h, rfl⟩
  refine VM.of (L := [mL a1, mU, mL a2, mU, mL a3, mU]) (by decide +kernel) rfl (Nat.le_of_ble_eq_true rfl) fun G F _ => ?_
  unfold fX8_up at h
  refine v_lload_n F dX8_up_0 rfl rfl ?_
  refine v_lload_n F dX8_up_1 rfl rfl ?_
  refine v_lmul F dX8_up_2 ?_
  refine v_lload F dX8_up_3 rfl ?_
  refine v_ladd F dX8_up_5 ?_
  refine v_lconst1 F dX8_up_6 ?_
  refine v_lsub F dX8_up_7 ?_
  refine v_lload F dX8_up_8 rfl ?_
  obtain ⟨hz1, h⟩ := ck_some h
  refine v_ldiv F dX8_up_10 hz1 ?_
  cases h
  cases (show _ = r from K)
  exact v_lret F dX8_up_11
def fX8_flow_15P (w : Wd) (l : Launch) (G : Cx) (Q : State → Prop) (m : Dt) (o : Int) (s : Dt × Int) : Prop := V w l WF G Q s.1 m 0 0 15 [mA o, mI (s.2), mU, mU, mU, mU, mU, mU] []
def fX8_flow_30P (w : Wd) (l : Launch) (G : Cx) (Q : State → Prop) (m : Dt) (o v1 : Int) (s : Dt × Int × Int) : Prop := V w l WF G Q s.1 m 0 0 30 [mA o, mI v1, mL (s.2.1), mU, mI (s.2.2), mU, mU, mU] []
theorem fX8_flow_30f_ok {w : Wd} {l : Launch} {G : Cx} {m dd : Dt} {o v1 : Int} {d' : Dt} {s : Dt × Int × Int} {x : ((Dt × Int × Int) ⊕ ((Dt × Int) ⊕ Dt))} (F : Fx w G cX8_flow RX8 8 none { frames := 1, cells := 0, slots := 0, locals := 25 }) (hX : WF dd m) (hp : PB m o 8) (h : fX8_flow_30f o v1 s = some x) (K : (Sum.elim (fX8_flow_30P w l G (QM w G WF none d' m 0 0) m o v1) (Sum.elim (fX8_flow_15P w l G (QM w G WF none d' m 0 0) m o) (fun q => q = d'))) x) : V w l WF G (QM w G WF none d' m 0 0) s.1 m 0 0 30 [mA o, mI v1, mL (s.2.1), mU, mI (s.2.2), mU, mU, mU] [] := by
  obtain ⟨d, v2, v4⟩ := s
  unfold fX8_flow_30f at h
  dsimp only at h
  refine v_iload F dX8_flow_30 rfl ?_
  refine v_aload_n F dX8_flow_32 rfl rfl ?_
  refine gf_X8_29 F dX8_flow_33 hp (v := (o + 125)) rfl ?_
  refine v_iload_n F dX8_flow_36 rfl rfl ?_
  obtain ⟨hi11, h⟩ := ck_some h
  refine v_iald F dX8_flow_37 (ar_X8_12 hX hp) hi11 ?_
  refine v_icmp_ge F dX8_flow_38 rfl (fun hq12 => ?_) (fun hq12 => ?_)
  · rw [if_pos hq12] at h
    obtain ⟨z, hu, ez⟩ := up_some h
    clear h
    subst ez
    have h := hu
    clear hu
    obtain ⟨x13, ex13, h⟩ := lv_some h
    refine v_iincN F dX8_flow_102 (Nat.le_of_ble_eq_true rfl) rfl ex13 (L' := [mA o, mI x13, mL v2, mU, mI v4, mU, mU, mU]) rfl ?_
    refine v_goto F dX8_flow_105 rfl ?_
    cases h
    refine v_fgt (L' := [mA o, mI x13, mU, mU, mU, mU, mU, mU]) ⟨Or.inl rfl, Or.inl rfl, Or.inr rfl, Or.inl rfl, Or.inr rfl, Or.inl rfl, Or.inl rfl, Or.inl rfl, trivial⟩ ?_
    exact K
  · rw [if_neg hq12] at h
    refine v_aload_n F dX8_flow_41 rfl rfl ?_
    refine gf_X8_26 F dX8_flow_42 hp (v := (o + 64)) rfl ?_
    refine v_iload_n F dX8_flow_45 rfl rfl ?_
    refine v_aaldF (c := 8) (k := 11) F dX8_flow_46 hp (Nat.le_of_ble_eq_true rfl) (Nat.le_of_ble_eq_true rfl) (by decide) (by decide) rfl (ar_X8_11 hX hp) (Nat.le_of_ble_eq_true rfl) rfl rfl rfl rfl hi11 (v := ((o + 65) + v1)) (by show o + 65 + 1 * v1 = _; omega) ?_
    refine v_iload F dX8_flow_47 rfl ?_
    obtain ⟨hi14, h⟩ := ck_some h
    refine v_iald F dX8_flow_49 (ae_X8_11 (i := v1) hX hp hi11 (v := ((o + 65) + v1)) (by omega)) hi14 ?_
    obtain ⟨x15, ex15, h⟩ := lv_some h
    refine v_nI ex15 ?_
    refine v_istore F dX8_flow_50 (Nat.le_of_ble_eq_true rfl) (L' := [mA o, mI v1, mL v2, mU, mI v4, mI x15, mU, mU]) rfl ?_
    refine v_lload_n F dX8_flow_52 rfl rfl ?_
    refine v_aload_n F dX8_flow_53 rfl rfl ?_
    refine gf_X8_75 F dX8_flow_54 hp (v := (o + 188)) rfl ?_
    refine v_iload F dX8_flow_57 rfl ?_
    obtain ⟨hi16, h⟩ := ck_some h
    refine v_lald F dX8_flow_59 (ar_X8_31 hX hp) hi16 ?_
    refine v_ldc2 (n := 100000000) F dX8_flow_60 q2204 rfl ⟨by decide, by decide⟩ ?_
    obtain ⟨x17, hc18, h⟩ := b1_some h
    refine v_callSv F dX8_flow_63 cs_X8_327 rfl (vm_X8_up hc18) rfl (rOk.of rfl) ?_
    refine v_lstore F dX8_flow_66 (Nat.le_of_ble_eq_true rfl) (L' := [mA o, mI v1, mL v2, mU, mI v4, mI x15, mL x17, mU]) rfl ?_
    refine v_aload_n F dX8_flow_68 rfl rfl ?_
    refine gf_X8_33 F dX8_flow_69 hp (v := (o + 126)) rfl ?_
    refine v_iload F dX8_flow_72 rfl ?_
    refine v_dup2_IA F dX8_flow_74 ?_
    refine v_lald F dX8_flow_75 (ar_X8_13 hX hp) hi16 ?_
    refine v_lload F dX8_flow_76 rfl ?_
    refine v_ladd F dX8_flow_78 ?_
    obtain ⟨d19, ed19, h⟩ := sd_some h
    refine v_last F dX8_flow_79 (ar_X8_13 hX hp) hi16 ?_
    refine v_nD ed19 ?_
    refine v_aload_n F dX8_flow_80 rfl rfl ?_
    refine v_dup_A F dX8_flow_81 ?_
    refine gf_X8_322 F dX8_flow_82 hp ?_
    refine v_lload F dX8_flow_85 rfl ?_
    refine v_ladd F dX8_flow_87 ?_
    obtain ⟨d20, ed20, h⟩ := sd_some h
    refine pf_X8_322 F dX8_flow_88 hp ?_
    refine v_nD ed20 ?_
    refine v_lload_n F dX8_flow_91 rfl rfl ?_
    refine v_lload F dX8_flow_92 rfl ?_
    refine v_lsub F dX8_flow_94 ?_
    obtain ⟨x21, ex21, h⟩ := lv_some h
    refine v_nL ex21 ?_
    refine v_lstore_n F dX8_flow_95 rfl (Nat.le_of_ble_eq_true rfl) (L' := [mA o, mI v1, mL x21, mU, mI v4, mI x15, mL x17, mU]) rfl ?_
    obtain ⟨x22, ex22, h⟩ := lv_some h
    refine v_iincN F dX8_flow_96 (Nat.le_of_ble_eq_true rfl) rfl ex22 (L' := [mA o, mI v1, mL x21, mU, mI x22, mI x15, mL x17, mU]) rfl ?_
    refine v_goto F dX8_flow_99 rfl ?_
    cases h
    refine v_fgt (L' := [mA o, mI v1, mL x21, mU, mI x22, mU, mU, mU]) ⟨Or.inl rfl, Or.inl rfl, Or.inl rfl, Or.inl rfl, Or.inl rfl, Or.inr rfl, Or.inr rfl, Or.inl rfl, trivial⟩ ?_
    exact K
theorem fX8_flow_30_ok {w : Wd} {l : Launch} {G : Cx} {d m dd : Dt} {o v1 v2 v4 : Int} {d' : Dt} {x : ((Dt × Int) ⊕ Dt)} (F : Fx w G cX8_flow RX8 8 none { frames := 1, cells := 0, slots := 0, locals := 25 }) (hX : WF dd m) (hp : PB m o 8) (h : fX8_flow_30 d o v1 v2 v4 = some x) (K : (Sum.elim (fX8_flow_15P w l G (QM w G WF none d' m 0 0) m o) (fun q => q = d')) x) : V w l WF G (QM w G WF none d' m 0 0) d m 0 0 30 [mA o, mI v1, mL v2, mU, mI v4, mU, mU, mU] [] := by
  unfold fX8_flow_30 at h
  exact loop_ok (P := fX8_flow_30P w l G (QM w G WF none d' m 0 0) m o v1) (fun s x hx h1 h2 => fX8_flow_30f_ok F hX hp hx (by
    cases x with
    | inl s' => exact h1 s' rfl
    | inr z => cases h2 z rfl; exact K)) h
theorem fX8_flow_15f_ok {w : Wd} {l : Launch} {G : Cx} {m dd : Dt} {o : Int} {d' : Dt} {s : Dt × Int} {x : ((Dt × Int) ⊕ Dt)} (F : Fx w G cX8_flow RX8 8 none { frames := 1, cells := 0, slots := 0, locals := 25 }) (hX : WF dd m) (hp : PB m o 8) (h : fX8_flow_15f o s = some x) (K : (Sum.elim (fX8_flow_15P w l G (QM w G WF none d' m 0 0) m o) (fun q => q = d')) x) : V w l WF G (QM w G WF none d' m 0 0) s.1 m 0 0 15 [mA o, mI (s.2), mU, mU, mU, mU, mU, mU] [] := by
  obtain ⟨d, v1⟩ := s
  unfold fX8_flow_15f at h
  dsimp only at h
  refine v_iload_n F dX8_flow_15 rfl rfl ?_
  refine v_aload_n F dX8_flow_16 rfl rfl ?_
  refine gf_X8_155 F dX8_flow_17 hp ?_
  refine v_icmp_ge F dX8_flow_20 rfl (fun hq4 => ?_) (fun hq4 => ?_)
  · rw [if_pos hq4] at h
    obtain ⟨z, hu, ez⟩ := up_some h
    clear h
    subst ez
    have h := hu
    clear hu
    refine v_aload_n F dX8_flow_108 rfl rfl ?_
    refine v_aload_n F dX8_flow_109 rfl rfl ?_
    refine gf_X8_322 F dX8_flow_110 hp ?_
    refine v_aload_n F dX8_flow_113 rfl rfl ?_
    obtain ⟨x5, ex5, h⟩ := lv_some h
    obtain ⟨hn7, h⟩ := ck_some h
    refine gf_X8_131 F dX8_flow_114 hp ex5 fun hr6 => ?_
    have x5p := hr6.resolve_left hn7
    refine gf_X8_185 F dX8_flow_117 x5p ?_
    refine v_iconst F dX8_flow_120 ⟨by decide, by decide⟩ ?_
    refine v_iadd F dX8_flow_121 ?_
    refine v_i2l F dX8_flow_122 ?_
    obtain ⟨x8, ex8, h⟩ := lv_some h
    refine v_nL ex8 ?_
    obtain ⟨hz9, h⟩ := ck_some h
    refine v_ldiv F dX8_flow_123 hz9 ?_
    refine v_lconst1 F dX8_flow_124 ?_
    refine v_ladd F dX8_flow_125 ?_
    obtain ⟨d10, ed10, h⟩ := sd_some h
    refine pf_X8_280 F dX8_flow_126 hp ?_
    refine v_nD ed10 ?_
    cases h
    cases (show _ = d' from K)
    exact v_vret F dX8_flow_129
  · rw [if_neg hq4] at h
    refine v_ldc2 (n := 100000000) F dX8_flow_23 q2204 rfl ⟨by decide, by decide⟩ ?_
    refine v_lstore_n F dX8_flow_26 rfl (Nat.le_of_ble_eq_true rfl) (L' := [mA o, mI v1, mL 100000000, mU, mU, mU, mU, mU]) rfl ?_
    refine v_iconst F dX8_flow_27 ⟨by decide, by decide⟩ ?_
    refine v_istore F dX8_flow_28 (Nat.le_of_ble_eq_true rfl) (L' := [mA o, mI v1, mL 100000000, mU, mI 0, mU, mU, mU]) rfl ?_
    exact fX8_flow_30_ok F hX hp h K
theorem fX8_flow_15_ok {w : Wd} {l : Launch} {G : Cx} {d m dd : Dt} {o v1 : Int} {d' : Dt} {x : Dt} (F : Fx w G cX8_flow RX8 8 none { frames := 1, cells := 0, slots := 0, locals := 25 }) (hX : WF dd m) (hp : PB m o 8) (h : fX8_flow_15 d o v1 = some x) (K : (fun q => q = d') x) : V w l WF G (QM w G WF none d' m 0 0) d m 0 0 15 [mA o, mI v1, mU, mU, mU, mU, mU, mU] [] := by
  unfold fX8_flow_15 at h
  exact loop_ok (P := fX8_flow_15P w l G (QM w G WF none d' m 0 0) m o) (fun s x hx h1 h2 => fX8_flow_15f_ok F hX hp hx (by
    cases x with
    | inl s' => exact h1 s' rfl
    | inr z => cases h2 z rfl; exact K)) h
theorem vm_X8_flow {w : Wd} {l : Launch} {d m : Dt} {o : Int} {d' : Dt} (hp : PB m o 8) (h : fX8_flow d o = some d') : VM w l WF yX8_flow cX8_flow 8 none 1 25 0 0 d m [mA o] none d' m := by
  obtain ⟨x, h, K⟩ : ∃ x, fX8_flow d o = some x ∧ x = d' := ⟨_, h, rfl⟩
  refine VM.of (L := [mA o, mU, mU, mU, mU, mU, mU, mU]) (by decide +kernel) rfl (Nat.le_of_ble_eq_true rfl) fun G F _ => v_fact fun _ hX _ _ => ?_
  unfold fX8_flow at h
  refine v_aload_n F dX8_flow_0 rfl rfl ?_
  refine gf_X8_33 F dX8_flow_1 hp (v := (o + 126)) rfl ?_
  refine v_lconst0 F dX8_flow_4 ?_
  obtain ⟨d1, hc2, h⟩ := bd_some h
  refine v_callS0 F dX8_flow_5 cs_X8_242 rfl (vm_J4_fill_3 (ar_X8_13 hX hp) hc2) rfl (rOk.of rfl) ?_
  refine v_aload_n F dX8_flow_8 rfl rfl ?_
  refine v_lconst0 F dX8_flow_9 ?_
  obtain ⟨d3, ed3, h⟩ := sd_some h
  refine pf_X8_322 F dX8_flow_10 hp ?_
  refine v_nD ed3 ?_
  refine v_iconst F dX8_flow_13 ⟨by decide, by decide⟩ ?_
  refine v_istore_n F dX8_flow_14 rfl (Nat.le_of_ble_eq_true rfl) (L' := [mA o, mI 0, mU, mU, mU, mU, mU, mU]) rfl ?_
  exact fX8_flow_15_ok F hX hp h K
