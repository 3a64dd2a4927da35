set_option maxRecDepth 100000
set_option maxHeartbeats 4000000
theorem vm_X11_lives {w : Wd} {l : Launch} {d m : Dt} {a1 : Int} {r : Int} (hp : PB m 1545 11) (h : fX11_lives d a1 = some r) : VM w l WF yX11_lives cX11_lives 2 (some .boolean) 0 0 0 0 d m [mA 1545, mI a1] (some (mI r)) d m := by
  obtain ⟨x, h, K⟩ : ∃ x, fX11_lives d a1 = some x ∧ x = r := ⟨_, h, rfl⟩
  refine VM.of (L := [mA 1545, mI a1]) (by decide +kernel) rfl (Nat.le_of_ble_eq_true rfl) fun G F _ => v_fact fun _ hX _ _ => ?_
  unfold fX11_lives at h
  refine v_aload_n F dX11_lives_0 rfl rfl ?_
  refine gf_X11_658 F dX11_lives_1 hp (v := 1605) rfl ?_
  refine v_iload_n F dX11_lives_4 rfl rfl ?_
  obtain ⟨hi1, h⟩ := ck_some h
  refine v_iald F dX11_lives_5 (ar_X11_85 hX hp) hi1 ?_
  refine v_if_eq F dX11_lives_6 rfl (fun hq2 => ?_) (fun hq2 => ?_)
  · rw [if_pos hq2] at h
    refine v_iconst F dX11_lives_29 ⟨by decide, by decide⟩ ?_
    refine v_goto F dX11_lives_30 rfl ?_
    cases h
    cases (show _ = r from K)
    exact v_zret F (Or.inr rfl) dX11_lives_34
  · rw [if_neg hq2] at h
    refine v_aload_n F dX11_lives_9 rfl rfl ?_
    refine gf_X11_658 F dX11_lives_10 hp (v := 1605) rfl ?_
    refine v_iload_n F dX11_lives_13 rfl rfl ?_
    refine v_iald F dX11_lives_14 (ar_X11_85 hX hp) hi1 ?_
    refine v_iconst F dX11_lives_15 ⟨by decide, by decide⟩ ?_
    refine v_icmp_eq F dX11_lives_16 rfl (fun hq3 => ?_) (fun hq3 => ?_)
    · rw [if_pos hq3] at h
      refine v_iconst F dX11_lives_29 ⟨by decide, by decide⟩ ?_
      refine v_goto F dX11_lives_30 rfl ?_
      cases h
      cases (show _ = r from K)
      exact v_zret F (Or.inr rfl) dX11_lives_34
    · rw [if_neg hq3] at h
      refine v_aload_n F dX11_lives_19 rfl rfl ?_
      refine gf_X11_658 F dX11_lives_20 hp (v := 1605) rfl ?_
      refine v_iload_n F dX11_lives_23 rfl rfl ?_
      refine v_iald F dX11_lives_24 (ar_X11_85 hX hp) hi1 ?_
      refine v_iconst F dX11_lives_25 ⟨by decide, by decide⟩ ?_
      refine v_icmp_ne F dX11_lives_26 rfl (fun hq4 => ?_) (fun hq4 => ?_)
      · rw [if_neg hq4] at h
        refine v_iconst F dX11_lives_33 ⟨by decide, by decide⟩ ?_
        cases h
        cases (show _ = r from K)
        exact v_zret F (Or.inl rfl) dX11_lives_34
      · rw [if_pos hq4] at h
        refine v_iconst F dX11_lives_29 ⟨by decide, by decide⟩ ?_
        refine v_goto F dX11_lives_30 rfl ?_
        cases h
        cases (show _ = r from K)
        exact v_zret F (Or.inr rfl) dX11_lives_34
def fX11_joins_4P (w : Wd) (l : Launch) (G : Cx) (Q : State → Prop) (m : Dt) (d : Dt) (a1 : Int) (s : Int × Int) : Prop := V w l WF G Q d m 0 0 4 [mA 1545, mI a1, mI (s.1), mI (s.2)] []
theorem fX11_joins_117_ok {w : Wd} {l : Launch} {G : Cx} {d m dd : Dt} {a1 v2 : Int} {d' : Dt} {x : Dt} (F : Fx w G cX11_joins RX11 4 none { frames := 1, cells := 0, slots := 0, locals := 22 }) (hX : WF dd m) (hp : PB m 1545 11) (h : fX11_joins_117 d a1 v2 = some x) (K : (fun q => q = d') x) : V w l WF G (QM w G WF none d' m 0 0) d m 0 0 117 [mA 1545, mU, mI v2, mU] [] := by
  unfold fX11_joins_117 at h
  refine v_aload_n F dX11_joins_117 rfl rfl ?_
  refine gf_X11_658 F dX11_joins_118 hp (v := 1605) rfl ?_
  refine v_iload_n F dX11_joins_121 rfl rfl ?_
  refine v_iconst F dX11_joins_122 ⟨by decide, by decide⟩ ?_
  obtain ⟨hi11, h⟩ := ck_some h
  obtain ⟨d12, ed12, h⟩ := sd_some h
  refine v_iast F dX11_joins_123 (ar_X11_85 hX hp) hi11 ?_
  refine v_nD ed12 ?_
  refine v_goto F dX11_joins_124 rfl ?_
  cases h
  cases (show _ = d' from K)
  exact v_vret F dX11_joins_134
theorem fX11_joins_4f_ok {w : Wd} {l : Launch} {G : Cx} {d m dd : Dt} {a1 : Int} {d' : Dt} {s : Int × Int} {x : ((Int × Int) ⊕ Dt)} (F : Fx w G cX11_joins RX11 4 none { frames := 1, cells := 0, slots := 0, locals := 22 }) (hX : WF dd m) (hp : PB m 1545 11) (h : fX11_joins_4f d a1 s = some x) (K : (Sum.elim (fX11_joins_4P w l G (QM w G WF none d' m 0 0) m d a1) (fun q => q = d')) x) : V w l WF G (QM w G WF none d' m 0 0) d m 0 0 4 [mA 1545, mI a1, mI (s.1), mI (s.2)] [] := by
  obtain ⟨v2, v3⟩ := s
  unfold fX11_joins_4f at h
  dsimp only at h
  refine v_iload_n F dX11_joins_4 rfl rfl ?_
  refine v_aload_n F dX11_joins_5 rfl rfl ?_
  refine gf_X11_543 F dX11_joins_6 hp ?_
  refine v_icmp_ge F dX11_joins_9 rfl (fun hq1 => ?_) (fun hq1 => ?_)
  · rw [if_pos hq1] at h
    obtain ⟨z, hu, ez⟩ := up_some h
    clear h
    subst ez
    have h := hu
    clear hu
    refine v_aload_n F dX11_joins_57 rfl rfl ?_
    refine gf_X11_667 F dX11_joins_58 hp (v := 1607) rfl ?_
    refine v_iload_n F dX11_joins_61 rfl rfl ?_
    refine v_iconst F dX11_joins_62 ⟨by decide, by decide⟩ ?_
    obtain ⟨hi2, h⟩ := ck_some h
    obtain ⟨d3, ed3, h⟩ := sd_some h
    refine v_zast F dX11_joins_63 (ar_X11_87 hX hp) hi2 ?_
    refine v_nD ed3 ?_
    refine v_aload_n F dX11_joins_64 rfl rfl ?_
    refine v_iload_n F dX11_joins_65 rfl rfl ?_
    obtain ⟨x4, hc5, h⟩ := b1_some h
    refine v_callVv (c := 11) F dX11_joins_66 cv_X11_694 rfl (PB.ob hp hX (Nat.le_of_ble_eq_true rfl)) (Nat.le_of_ble_eq_true rfl) rfl (vm_X11_lives hp hc5) rfl (rOk.of rfl) ?_
    refine v_if_eq F dX11_joins_69 rfl (fun hq6 => ?_) (fun hq6 => ?_)
    · rw [if_pos hq6] at h
      cases h
      cases (show _ = d' from K)
      exact v_vret F dX11_joins_76
    · rw [if_neg hq6] at h
      refine v_iload_n F dX11_joins_72 rfl rfl ?_
      refine v_if_ge F dX11_joins_73 rfl (fun hq7 => ?_) (fun hq7 => ?_)
      · rw [if_pos hq7] at h
        refine v_aload_n F dX11_joins_77 rfl rfl ?_
        refine gf_X11_658 F dX11_joins_78 hp (v := 1605) rfl ?_
        refine v_iload_n F dX11_joins_81 rfl rfl ?_
        obtain ⟨hi8, h⟩ := ck_some h
        refine v_iald F dX11_joins_82 (ar_X11_85 hX hp) hi8 ?_
        refine v_iconst F dX11_joins_83 ⟨by decide, by decide⟩ ?_
        refine v_icmp_ne F dX11_joins_84 rfl (fun hq9 => ?_) (fun hq9 => ?_)
        · rw [if_neg hq9] at h
          refine v_aload_n F dX11_joins_97 rfl rfl ?_
          refine gf_X11_661 F dX11_joins_98 hp (v := 1604) rfl ?_
          refine v_iload_n F dX11_joins_101 rfl rfl ?_
          refine v_iald F dX11_joins_102 (ar_X11_84 hX hp) hi8 ?_
          refine v_bipush F dX11_joins_103 rfl ⟨by decide, by decide⟩ ?_
          refine v_icmp_eq F dX11_joins_105 rfl (fun hq10 => ?_) (fun hq10 => ?_)
          · rw [if_pos hq10] at h
            refine v_fgt (L' := [mA 1545, mU, mI v2, mU]) ⟨Or.inl rfl, Or.inr rfl, Or.inl rfl, Or.inr rfl, trivial⟩ ?_
            exact fX11_joins_117_ok F hX hp h K
          · rw [if_neg hq10] at h
            refine v_aload_n F dX11_joins_108 rfl rfl ?_
            refine v_iload_n F dX11_joins_109 rfl rfl ?_
            refine v_iload_n F dX11_joins_110 rfl rfl ?_
            obtain ⟨x13, hc14, h⟩ := b1_some h
            refine v_callVv (c := 11) F dX11_joins_111 cv_X11_682 rfl (PB.ob hp hX (Nat.le_of_ble_eq_true rfl)) (Nat.le_of_ble_eq_true rfl) rfl (vm_X11_isBehind hp hc14) rfl (rOk.of rfl) ?_
            refine v_if_eq F dX11_joins_114 rfl (fun hq15 => ?_) (fun hq15 => ?_)
            · rw [if_pos hq15] at h
              refine v_aload_n F dX11_joins_127 rfl rfl ?_
              refine gf_X11_658 F dX11_joins_128 hp (v := 1605) rfl ?_
              refine v_iload_n F dX11_joins_131 rfl rfl ?_
              refine v_iconst F dX11_joins_132 ⟨by decide, by decide⟩ ?_
              obtain ⟨d16, ed16, h⟩ := sd_some h
              refine v_iast F dX11_joins_133 (ar_X11_85 hX hp) hi2 ?_
              refine v_nD ed16 ?_
              cases h
              cases (show _ = d' from K)
              exact v_vret F dX11_joins_134
            · rw [if_neg hq15] at h
              refine v_fgt (L' := [mA 1545, mU, mI v2, mU]) ⟨Or.inl rfl, Or.inr rfl, Or.inl rfl, Or.inr rfl, trivial⟩ ?_
              exact fX11_joins_117_ok F hX hp h K
        · rw [if_pos hq9] at h
          refine v_aload_n F dX11_joins_87 rfl rfl ?_
          refine gf_X11_658 F dX11_joins_88 hp (v := 1605) rfl ?_
          refine v_iload_n F dX11_joins_91 rfl rfl ?_
          refine v_iconst F dX11_joins_92 ⟨by decide, by decide⟩ ?_
          obtain ⟨d17, ed17, h⟩ := sd_some h
          refine v_iast F dX11_joins_93 (ar_X11_85 hX hp) hi2 ?_
          refine v_nD ed17 ?_
          refine v_goto F dX11_joins_94 rfl ?_
          cases h
          cases (show _ = d' from K)
          exact v_vret F dX11_joins_134
      · rw [if_neg hq7] at h
        cases h
        cases (show _ = d' from K)
        exact v_vret F dX11_joins_76
  · rw [if_neg hq1] at h
    refine v_iload_n F dX11_joins_12 rfl rfl ?_
    refine v_iload_n F dX11_joins_13 rfl rfl ?_
    refine v_icmp_eq F dX11_joins_14 rfl (fun hq18 => ?_) (fun hq18 => ?_)
    · rw [if_pos hq18] at h
      obtain ⟨x19, ex19, h⟩ := lv_some h
      refine v_iincN F dX11_joins_51 (Nat.le_of_ble_eq_true rfl) rfl ex19 (L' := [mA 1545, mI a1, mI v2, mI x19]) rfl ?_
      refine v_goto F dX11_joins_54 rfl ?_
      cases h
      exact K
    · rw [if_neg hq18] at h
      refine v_aload_n F dX11_joins_17 rfl rfl ?_
      refine gf_X11_667 F dX11_joins_18 hp (v := 1607) rfl ?_
      refine v_iload_n F dX11_joins_21 rfl rfl ?_
      obtain ⟨hi20, h⟩ := ck_some h
      refine v_zald F dX11_joins_22 (ar_X11_87 hX hp) hi20 ?_
      refine v_if_eq F dX11_joins_23 rfl (fun hq21 => ?_) (fun hq21 => ?_)
      · rw [if_pos hq21] at h
        obtain ⟨x22, ex22, h⟩ := lv_some h
        refine v_iincN F dX11_joins_51 (Nat.le_of_ble_eq_true rfl) rfl ex22 (L' := [mA 1545, mI a1, mI v2, mI x22]) rfl ?_
        refine v_goto F dX11_joins_54 rfl ?_
        cases h
        exact K
      · rw [if_neg hq21] at h
        refine v_aload_n F dX11_joins_26 rfl rfl ?_
        refine gf_X11_691 F dX11_joins_27 hp (v := 1603) rfl ?_
        refine v_iload_n F dX11_joins_30 rfl rfl ?_
        refine v_iald F dX11_joins_31 (ar_X11_83 hX hp) hi20 ?_
        refine v_aload_n F dX11_joins_32 rfl rfl ?_
        refine gf_X11_691 F dX11_joins_33 hp (v := 1603) rfl ?_
        refine v_iload_n F dX11_joins_36 rfl rfl ?_
        obtain ⟨hi23, h⟩ := ck_some h
        refine v_iald F dX11_joins_37 (ar_X11_83 hX hp) hi23 ?_
        refine v_icmp_ne F dX11_joins_38 rfl (fun hq24 => ?_) (fun hq24 => ?_)
        · rw [if_neg hq24] at h
          obtain ⟨x25, ex25, h⟩ := lv_some h
          refine v_iincN F dX11_joins_51 (Nat.le_of_ble_eq_true rfl) rfl ex25 (L' := [mA 1545, mI a1, mI v2, mI x25]) rfl ?_
          refine v_goto F dX11_joins_54 rfl ?_
          cases h
          exact K
        · rw [if_pos hq24] at h
          refine v_aload_n F dX11_joins_41 rfl rfl ?_
          refine v_iload_n F dX11_joins_42 rfl rfl ?_
          obtain ⟨x26, hc27, h⟩ := b1_some h
          refine v_callVv (c := 11) F dX11_joins_43 cv_X11_694 rfl (PB.ob hp hX (Nat.le_of_ble_eq_true rfl)) (Nat.le_of_ble_eq_true rfl) rfl (vm_X11_lives hp hc27) rfl (rOk.of rfl) ?_
          refine v_if_eq F dX11_joins_46 rfl (fun hq28 => ?_) (fun hq28 => ?_)
          · rw [if_pos hq28] at h
            obtain ⟨x29, ex29, h⟩ := lv_some h
            refine v_iincN F dX11_joins_51 (Nat.le_of_ble_eq_true rfl) rfl ex29 (L' := [mA 1545, mI a1, mI v2, mI x29]) rfl ?_
            refine v_goto F dX11_joins_54 rfl ?_
            cases h
            exact K
          · rw [if_neg hq28] at h
            refine v_iload_n F dX11_joins_49 rfl rfl ?_
            refine v_istore_n F dX11_joins_50 rfl (Nat.le_of_ble_eq_true rfl) (L' := [mA 1545, mI a1, mI v3, mI v3]) rfl ?_
            obtain ⟨x30, ex30, h⟩ := lv_some h
            refine v_iincN F dX11_joins_51 (Nat.le_of_ble_eq_true rfl) rfl ex30 (L' := [mA 1545, mI a1, mI v3, mI x30]) rfl ?_
            refine v_goto F dX11_joins_54 rfl ?_
            cases h
            exact K
theorem fX11_joins_4_ok {w : Wd} {l : Launch} {G : Cx} {d m dd : Dt} {a1 v2 v3 : Int} {d' : Dt} {x : Dt} (F : Fx w G cX11_joins RX11 4 none { frames := 1, cells := 0, slots := 0, locals := 22 }) (hX : WF dd m) (hp : PB m 1545 11) (h : fX11_joins_4 d a1 v2 v3 = some x) (K : (fun q => q = d') x) : V w l WF G (QM w G WF none d' m 0 0) d m 0 0 4 [mA 1545, mI a1, mI v2, mI v3] [] := by
  unfold fX11_joins_4 at h
  exact loop_ok (P := fX11_joins_4P w l G (QM w G WF none d' m 0 0) m d a1) (fun s x hx h1 h2 => fX11_joins_4f_ok F hX hp hx (by
    cases x with
    | inl s' => exact h1 s' rfl
    | inr z => cases h2 z rfl; exact K)) h
theorem vm_X11_joins {w : Wd} {l : Launch} {d m : Dt} {a1 : Int} {d' : Dt} (hp : PB m 1545 11) (h : fX11_joins d a1 = some d') : VM w l WF yX11_joins cX11_joins 4 none 1 22 0 0 d m [mA 1545, mI a1] none d' m := by
  obtain ⟨x, h, K⟩ : ∃ x, fX11_joins d a1 = some x ∧ x = d' := ⟨_, h, rfl⟩
  refine VM.of (L := [mA 1545, mI a1, mU, mU]) (by decide +kernel) rfl (Nat.le_of_ble_eq_true rfl) fun G F _ => v_fact fun _ hX _ _ => ?_
  unfold fX11_joins at h
  refine v_iconst F dX11_joins_0 ⟨by decide, by decide⟩ ?_
  refine v_istore_n F dX11_joins_1 rfl (Nat.le_of_ble_eq_true rfl) (L' := [mA 1545, mI a1, mI (-1), mU]) rfl ?_
  refine v_iconst F dX11_joins_2 ⟨by decide, by decide⟩ ?_
  refine v_istore_n F dX11_joins_3 rfl (Nat.le_of_ble_eq_true rfl) (L' := [mA 1545, mI a1, mI (-1), mI 0]) rfl ?_
  exact fX11_joins_4_ok F hX hp h K
def fX11_marksOf_4P (w : Wd) (l : Launch) (G : Cx) (Q : State → Prop) (m : Dt) (d : Dt) (a1 : Int) (s : Int × Int) : Prop := V w l WF G Q d m 0 0 4 [mA 1545, mI a1, mI (s.1), mI (s.2)] []
theorem fX11_marksOf_32_ok {w : Wd} {l : Launch} {G : Cx} {d m dd : Dt} {a1 v3 s0 s1 : Int} {r : Int} {x : ((Int × Int) ⊕ Int)} (F : Fx w G cX11_marksOf RX11 4 (some .int) { frames := 0, cells := 0, slots := 0, locals := 0 }) (hX : WF dd m) (hp : PB m 1545 11) (h : fX11_marksOf_32 d a1 v3 s0 s1 = some x) (K : (Sum.elim (fX11_marksOf_4P w l G (QM w G WF (some (mI r)) d m 0 0) m d a1) (fun q => q = r)) x) : V w l WF G (QM w G WF (some (mI r)) d m 0 0) d m 0 0 32 [mA 1545, mI a1, mU, mI v3] [mI s1, mI s0] := by
  unfold fX11_marksOf_32 at h
  refine v_iadd F dX11_marksOf_32 ?_
  obtain ⟨x3, ex3, h⟩ := lv_some h
  refine v_nI ex3 ?_
  refine v_istore_n F dX11_marksOf_33 rfl (Nat.le_of_ble_eq_true rfl) (L' := [mA 1545, mI a1, mI x3, mI v3]) rfl ?_
  obtain ⟨x4, ex4, h⟩ := lv_some h
  refine v_iincN F dX11_marksOf_34 (Nat.le_of_ble_eq_true rfl) rfl ex4 (L' := [mA 1545, mI a1, mI x3, mI x4]) rfl ?_
  refine v_goto F dX11_marksOf_37 rfl ?_
  cases h
  exact K
theorem fX11_marksOf_4f_ok {w : Wd} {l : Launch} {G : Cx} {d m dd : Dt} {a1 : Int} {r : Int} {s : Int × Int} {x : ((Int × Int) ⊕ Int)} (F : Fx w G cX11_marksOf RX11 4 (some .int) { frames := 0, cells := 0, slots := 0, locals := 0 }) (hX : WF dd m) (hp : PB m 1545 11) (h : fX11_marksOf_4f d a1 s = some x) (K : (Sum.elim (fX11_marksOf_4P w l G (QM w G WF (some (mI r)) d m 0 0) m d a1) (fun q => q = r)) x) : V w l WF G (QM w G WF (some (mI r)) d m 0 0) d m 0 0 4 [mA 1545, mI a1, mI (s.1), mI (s.2)] [] := by
  obtain ⟨v2, v3⟩ := s
  unfold fX11_marksOf_4f at h
  dsimp only at h
  refine v_iload_n F dX11_marksOf_4 rfl rfl ?_
  refine v_aload_n F dX11_marksOf_5 rfl rfl ?_
  refine gf_X11_469 F dX11_marksOf_6 hp ?_
  refine v_icmp_ge F dX11_marksOf_9 rfl (fun hq1 => ?_) (fun hq1 => ?_)
  · rw [if_pos hq1] at h
    obtain ⟨z, hu, ez⟩ := up_some h
    clear h
    subst ez
    have h := hu
    clear hu
    refine v_iload_n F dX11_marksOf_40 rfl rfl ?_
    cases h
    cases (show _ = r from K)
    exact v_iret F dX11_marksOf_41
  · rw [if_neg hq1] at h
    refine v_iload_n F dX11_marksOf_12 rfl rfl ?_
    refine v_iload_n F dX11_marksOf_13 rfl rfl ?_
    refine v_iload_n F dX11_marksOf_14 rfl rfl ?_
    refine v_ishr F dX11_marksOf_15 ?_
    refine v_iconst F dX11_marksOf_16 ⟨by decide, by decide⟩ ?_
    refine v_iand F dX11_marksOf_17 ?_
    refine v_iconst F dX11_marksOf_18 ⟨by decide, by decide⟩ ?_
    refine v_icmp_ne F dX11_marksOf_19 rfl (fun hq2 => ?_) (fun hq2 => ?_)
    · rw [if_neg hq2] at h
      refine v_iconst F dX11_marksOf_31 ⟨by decide, by decide⟩ ?_
      refine v_fgt (L' := [mA 1545, mI a1, mU, mI v3]) ⟨Or.inl rfl, Or.inl rfl, Or.inr rfl, Or.inl rfl, trivial⟩ ?_
      exact fX11_marksOf_32_ok F hX hp h K
    · rw [if_pos hq2] at h
      refine v_aload_n F dX11_marksOf_22 rfl rfl ?_
      refine gf_X11_488 F dX11_marksOf_23 hp (v := 1589) rfl ?_
      refine v_iload_n F dX11_marksOf_26 rfl rfl ?_
      obtain ⟨hi5, h⟩ := ck_some h
      refine v_iald F dX11_marksOf_27 (ar_X11_65 hX hp) hi5 ?_
      refine v_goto F dX11_marksOf_28 rfl ?_
      refine v_fgt (L' := [mA 1545, mI a1, mU, mI v3]) ⟨Or.inl rfl, Or.inl rfl, Or.inr rfl, Or.inl rfl, trivial⟩ ?_
      exact fX11_marksOf_32_ok F hX hp h K
theorem fX11_marksOf_4_ok {w : Wd} {l : Launch} {G : Cx} {d m dd : Dt} {a1 v2 v3 : Int} {r : Int} {x : Int} (F : Fx w G cX11_marksOf RX11 4 (some .int) { frames := 0, cells := 0, slots := 0, locals := 0 }) (hX : WF dd m) (hp : PB m 1545 11) (h : fX11_marksOf_4 d a1 v2 v3 = some x) (K : (fun q => q = r) x) : V w l WF G (QM w G WF (some (mI r)) d m 0 0) d m 0 0 4 [mA 1545, mI a1, mI v2, mI v3] [] := by
  unfold fX11_marksOf_4 at h
  exact loop_ok (P := fX11_marksOf_4P w l G (QM w G WF (some (mI r)) d m 0 0) m d a1) (fun s x hx h1 h2 => fX11_marksOf_4f_ok F hX hp hx (by
    cases x with
    | inl s' => exact h1 s' rfl
    | inr z => cases h2 z rfl; exact K)) h
theorem vm_X11_marksOf {w : Wd} {l : Launch} {d m : Dt} {a1 : Int} {r : Int} (hp : PB m 1545 11) (h : fX11_marksOf d a1 = some r) : VM w l WF yX11_marksOf cX11_marksOf 4 (some .int) 0 0 0 0 d m [mA 1545, mI a1] (some (mI r)) d m := by
  obtain ⟨x, h, K⟩ : ∃ x, fX11_marksOf d a1 = some x ∧ x = r := ⟨_, h, rfl⟩
  refine VM.of (L := [mA 1545, mI a1, mU, mU]) (by decide +kernel) rfl (Nat.le_of_ble_eq_true rfl) fun G F _ => v_fact fun _ hX _ _ => ?_
  unfold fX11_marksOf at h
  refine v_iconst F dX11_marksOf_0 ⟨by decide, by decide⟩ ?_
  refine v_istore_n F dX11_marksOf_1 rfl (Nat.le_of_ble_eq_true rfl) (L' := [mA 1545, mI a1, mI 0, mU]) rfl ?_
  refine v_iconst F dX11_marksOf_2 ⟨by decide, by decide⟩ ?_
  refine v_istore_n F dX11_marksOf_3 rfl (Nat.le_of_ble_eq_true rfl) (L' := [mA 1545, mI a1, mI 0, mI 0]) rfl ?_
  exact fX11_marksOf_4_ok F hX hp h K
def fX11_isAhead_50P (w : Wd) (l : Launch) (G : Cx) (Q : State → Prop) (m : Dt) (d : Dt) (a1 a2 v3 : Int) (s : Int) : Prop := V w l WF G Q d m 0 0 50 [mA 1545, mI a1, mI a2, mI v3, mI (s), mU, mU] []
theorem fX11_isAhead_50f_ok {w : Wd} {l : Launch} {G : Cx} {d m dd : Dt} {a1 a2 v3 : Int} {r : Int} {s : Int} {x : ((Int) ⊕ Int)} (F : Fx w G cX11_isAhead RX11 7 (some .boolean) { frames := 1, cells := 0, slots := 0, locals := 23 }) (hX : WF dd m) (hp : PB m 1545 11) (h : fX11_isAhead_50f d a1 a2 v3 s = some x) (K : (Sum.elim (fX11_isAhead_50P w l G (QM w G WF (some (mI r)) d m 0 0) m d a1 a2 v3) (fun q => q = r)) x) : V w l WF G (QM w G WF (some (mI r)) d m 0 0) d m 0 0 50 [mA 1545, mI a1, mI a2, mI v3, mI (s), mU, mU] [] := by
  obtain ⟨v4, rfl⟩ : ∃ z, z = s := ⟨s, rfl⟩
  unfold fX11_isAhead_50f at h
  dsimp only at h
  refine v_iload F dX11_isAhead_50 rfl ?_
  refine v_iload_n F dX11_isAhead_52 rfl rfl ?_
  refine v_icmp_ge F dX11_isAhead_53 rfl (fun hq6 => ?_) (fun hq6 => ?_)
  · rw [if_pos hq6] at h
    obtain ⟨z, hu, ez⟩ := up_some h
    clear h
    subst ez
    have h := hu
    clear hu
    refine v_iconst F dX11_isAhead_110 ⟨by decide, by decide⟩ ?_
    cases h
    cases (show _ = r from K)
    exact v_zret F (Or.inl rfl) dX11_isAhead_111
  · rw [if_neg hq6] at h
    refine v_aload_n F dX11_isAhead_56 rfl rfl ?_
    refine gf_X11_722 F dX11_isAhead_57 hp (v := 1610) rfl ?_
    refine v_bipush F dX11_isAhead_60 rfl ⟨by decide, by decide⟩ ?_
    refine v_iload_n F dX11_isAhead_62 rfl rfl ?_
    refine v_imul F dX11_isAhead_63 ?_
    refine v_iload F dX11_isAhead_64 rfl ?_
    refine v_iadd F dX11_isAhead_66 ?_
    obtain ⟨x7, ex7, h⟩ := lv_some h
    refine v_nI ex7 ?_
    obtain ⟨hi8, h⟩ := ck_some h
    refine v_bald F dX11_isAhead_67 (ar_X11_90 hX hp) hi8 ?_
    obtain ⟨x9, ex9, h⟩ := lv_some h
    refine v_nI ex9 ?_
    refine v_istore F dX11_isAhead_68 (Nat.le_of_ble_eq_true rfl) (L' := [mA 1545, mI a1, mI a2, mI v3, mI v4, mI x9, mU]) rfl ?_
    refine v_aload_n F dX11_isAhead_70 rfl rfl ?_
    refine gf_X11_722 F dX11_isAhead_71 hp (v := 1610) rfl ?_
    refine v_bipush F dX11_isAhead_74 rfl ⟨by decide, by decide⟩ ?_
    refine v_iload_n F dX11_isAhead_76 rfl rfl ?_
    refine v_imul F dX11_isAhead_77 ?_
    refine v_iload F dX11_isAhead_78 rfl ?_
    refine v_iadd F dX11_isAhead_80 ?_
    obtain ⟨x10, ex10, h⟩ := lv_some h
    refine v_nI ex10 ?_
    obtain ⟨hi11, h⟩ := ck_some h
    refine v_bald F dX11_isAhead_81 (ar_X11_90 hX hp) hi11 ?_
    obtain ⟨x12, ex12, h⟩ := lv_some h
    refine v_nI ex12 ?_
    refine v_istore F dX11_isAhead_82 (Nat.le_of_ble_eq_true rfl) (L' := [mA 1545, mI a1, mI a2, mI v3, mI v4, mI x9, mI x12]) rfl ?_
    refine v_iload F dX11_isAhead_84 rfl ?_
    refine v_iload F dX11_isAhead_86 rfl ?_
    refine v_icmp_eq F dX11_isAhead_88 rfl (fun hq13 => ?_) (fun hq13 => ?_)
    · rw [if_pos hq13] at h
      obtain ⟨x14, ex14, h⟩ := lv_some h
      refine v_iincN F dX11_isAhead_104 (Nat.le_of_ble_eq_true rfl) rfl ex14 (L' := [mA 1545, mI a1, mI a2, mI v3, mI x14, mI x9, mI x12]) rfl ?_
      refine v_goto F dX11_isAhead_107 rfl ?_
      cases h
      refine v_fgt (L' := [mA 1545, mI a1, mI a2, mI v3, mI x14, mU, mU]) ⟨Or.inl rfl, Or.inl rfl, Or.inl rfl, Or.inl rfl, Or.inl rfl, Or.inr rfl, Or.inr rfl, trivial⟩ ?_
      exact K
    · rw [if_neg hq13] at h
      obtain ⟨z, hu, ez⟩ := up_some h
      clear h
      subst ez
      have h := hu
      clear hu
      refine v_iload F dX11_isAhead_91 rfl ?_
      refine v_iload F dX11_isAhead_93 rfl ?_
      refine v_icmp_ge F dX11_isAhead_95 rfl (fun hq15 => ?_) (fun hq15 => ?_)
      · rw [if_pos hq15] at h
        refine v_iconst F dX11_isAhead_102 ⟨by decide, by decide⟩ ?_
        cases h
        cases (show _ = r from K)
        exact v_zret F (Or.inl rfl) dX11_isAhead_103
      · rw [if_neg hq15] at h
        refine v_iconst F dX11_isAhead_98 ⟨by decide, by decide⟩ ?_
        refine v_goto F dX11_isAhead_99 rfl ?_
        cases h
        cases (show _ = r from K)
        exact v_zret F (Or.inr rfl) dX11_isAhead_103
theorem fX11_isAhead_50_ok {w : Wd} {l : Launch} {G : Cx} {d m dd : Dt} {a1 a2 v3 v4 : Int} {r : Int} {x : Int} (F : Fx w G cX11_isAhead RX11 7 (some .boolean) { frames := 1, cells := 0, slots := 0, locals := 23 }) (hX : WF dd m) (hp : PB m 1545 11) (h : fX11_isAhead_50 d a1 a2 v3 v4 = some x) (K : (fun q => q = r) x) : V w l WF G (QM w G WF (some (mI r)) d m 0 0) d m 0 0 50 [mA 1545, mI a1, mI a2, mI v3, mI v4, mU, mU] [] := by
  unfold fX11_isAhead_50 at h
  exact loop_ok (P := fX11_isAhead_50P w l G (QM w G WF (some (mI r)) d m 0 0) m d a1 a2 v3) (fun s x hx h1 h2 => fX11_isAhead_50f_ok F hX hp hx (by
    cases x with
    | inl s' => exact h1 s' rfl
    | inr z => cases h2 z rfl; exact K)) h
theorem vm_X11_isAhead {w : Wd} {l : Launch} {d m : Dt} {a1 a2 : Int} {r : Int} (hp : PB m 1545 11) (h : fX11_isAhead d a1 a2 = some r) : VM w l WF yX11_isAhead cX11_isAhead 7 (some .boolean) 1 23 0 0 d m [mA 1545, mI a1, mI a2] (some (mI r)) d m := by
  obtain ⟨x, h, K⟩ : ∃ x, fX11_isAhead d a1 a2 = some x ∧ x = r := ⟨_, h, rfl⟩
  refine VM.of (L := [mA 1545, mI a1, mI a2, mU, mU, mU, mU]) (by decide +kernel) rfl (Nat.le_of_ble_eq_true rfl) fun G F _ => v_fact fun _ hX _ _ => ?_
  unfold fX11_isAhead at h
  refine v_aload_n F dX11_isAhead_0 rfl rfl ?_
  refine gf_X11_697 F dX11_isAhead_1 hp (v := 1608) rfl ?_
  refine v_iload_n F dX11_isAhead_4 rfl rfl ?_
  obtain ⟨hi1, h⟩ := ck_some h
  refine v_iald F dX11_isAhead_5 (ar_X11_88 hX hp) hi1 ?_
  refine v_aload_n F dX11_isAhead_6 rfl rfl ?_
  refine gf_X11_697 F dX11_isAhead_7 hp (v := 1608) rfl ?_
  refine v_iload_n F dX11_isAhead_10 rfl rfl ?_
  obtain ⟨hi2, h⟩ := ck_some h
  refine v_iald F dX11_isAhead_11 (ar_X11_88 hX hp) hi2 ?_
  refine v_icmp_eq F dX11_isAhead_12 rfl (fun hq3 => ?_) (fun hq3 => ?_)
  · rw [if_pos hq3] at h
    refine v_aload_n F dX11_isAhead_36 rfl rfl ?_
    refine v_aload_n F dX11_isAhead_37 rfl rfl ?_
    refine gf_X11_697 F dX11_isAhead_38 hp (v := 1608) rfl ?_
    refine v_iload_n F dX11_isAhead_41 rfl rfl ?_
    refine v_iald F dX11_isAhead_42 (ar_X11_88 hX hp) hi1 ?_
    obtain ⟨x4, hc5, h⟩ := b1_some h
    refine v_callVv (c := 11) F dX11_isAhead_43 cv_X11_719 rfl (PB.ob hp hX (Nat.le_of_ble_eq_true rfl)) (Nat.le_of_ble_eq_true rfl) rfl (vm_X11_marksOf hp hc5) rfl (rOk.of rfl) ?_
    refine v_istore_n F dX11_isAhead_46 rfl (Nat.le_of_ble_eq_true rfl) (L' := [mA 1545, mI a1, mI a2, mI x4, mU, mU, mU]) rfl ?_
    refine v_iconst F dX11_isAhead_47 ⟨by decide, by decide⟩ ?_
    refine v_istore F dX11_isAhead_48 (Nat.le_of_ble_eq_true rfl) (L' := [mA 1545, mI a1, mI a2, mI x4, mI 0, mU, mU]) rfl ?_
    exact fX11_isAhead_50_ok F hX hp h K
  · rw [if_neg hq3] at h
    refine v_aload_n F dX11_isAhead_15 rfl rfl ?_
    refine gf_X11_697 F dX11_isAhead_16 hp (v := 1608) rfl ?_
    refine v_iload_n F dX11_isAhead_19 rfl rfl ?_
    refine v_iald F dX11_isAhead_20 (ar_X11_88 hX hp) hi1 ?_
    refine v_aload_n F dX11_isAhead_21 rfl rfl ?_
    refine gf_X11_697 F dX11_isAhead_22 hp (v := 1608) rfl ?_
    refine v_iload_n F dX11_isAhead_25 rfl rfl ?_
    refine v_iald F dX11_isAhead_26 (ar_X11_88 hX hp) hi2 ?_
    refine v_icmp_ge F dX11_isAhead_27 rfl (fun hq16 => ?_) (fun hq16 => ?_)
    · rw [if_pos hq16] at h
      refine v_iconst F dX11_isAhead_34 ⟨by decide, by decide⟩ ?_
      cases h
      cases (show _ = r from K)
      exact v_zret F (Or.inl rfl) dX11_isAhead_35
    · rw [if_neg hq16] at h
      refine v_iconst F dX11_isAhead_30 ⟨by decide, by decide⟩ ?_
      refine v_goto F dX11_isAhead_31 rfl ?_
      cases h
      cases (show _ = r from K)
      exact v_zret F (Or.inr rfl) dX11_isAhead_35
def fX11_intoBox_14P (w : Wd) (l : Launch) (G : Cx) (Q : State → Prop) (m : Dt) (a1 a2 : Int) (s : Dt × Int) : Prop := V w l WF G Q s.1 m 0 0 14 [mA 1545, mI a1, mI a2, mI (s.2)] []
theorem fX11_intoBox_72_ok {w : Wd} {l : Launch} {G : Cx} {d m dd : Dt} {a1 a2 v3 : Int} {d' : Dt} {x : Dt} (F : Fx w G cX11_intoBox RX11 4 none { frames := 2, cells := 0, slots := 0, locals := 49 }) (hX : WF dd m) (hp : PB m 1545 11) (h : fX11_intoBox_72 d a1 a2 v3 = some x) (K : (fun q => q = d') x) : V w l WF G (QM w G WF none d' m 0 0) d m 0 0 72 [mA 1545, mI a1, mI a2, mI v3] [] := by
  unfold fX11_intoBox_72 at h
  refine v_aload_n F dX11_intoBox_72 rfl rfl ?_
  refine gf_X11_740 F dX11_intoBox_73 hp (v := 1614) rfl ?_
  refine v_sipush F dX11_intoBox_76 rfl ⟨by decide, by decide⟩ ?_
  refine v_iload_n F dX11_intoBox_79 rfl rfl ?_
  refine v_imul F dX11_intoBox_80 ?_
  refine v_iload_n F dX11_intoBox_81 rfl rfl ?_
  refine v_iadd F dX11_intoBox_82 ?_
  refine v_iload_n F dX11_intoBox_83 rfl rfl ?_
  obtain ⟨x6, ex6, h⟩ := lv_some h
  refine v_n2 ex6 ?_
  obtain ⟨hi7, h⟩ := ck_some h
  obtain ⟨d8, ed8, h⟩ := sd_some h
  refine v_iast F dX11_intoBox_84 (ar_X11_94 hX hp) hi7 ?_
  refine v_nD ed8 ?_
  refine v_aload_n F dX11_intoBox_85 rfl rfl ?_
  refine gf_X11_549 F dX11_intoBox_86 hp (v := 1613) rfl ?_
  refine v_iload_n F dX11_intoBox_89 rfl rfl ?_
  refine v_dup2_IA F dX11_intoBox_90 ?_
  obtain ⟨hi9, h⟩ := ck_some h
  refine v_iald F dX11_intoBox_91 (ar_X11_93 hX hp) hi9 ?_
  refine v_iconst F dX11_intoBox_92 ⟨by decide, by decide⟩ ?_
  refine v_iadd F dX11_intoBox_93 ?_
  obtain ⟨d10, ed10, h⟩ := sd_some h
  refine v_iast F dX11_intoBox_94 (ar_X11_93 hX hp) hi9 ?_
  refine v_nD ed10 ?_
  cases h
  cases (show _ = d' from K)
  exact v_vret F dX11_intoBox_95
theorem fX11_intoBox_14f_ok {w : Wd} {l : Launch} {G : Cx} {m dd : Dt} {a1 a2 : Int} {d' : Dt} {s : Dt × Int} {x : ((Dt × Int) ⊕ Dt)} (F : Fx w G cX11_intoBox RX11 4 none { frames := 2, cells := 0, slots := 0, locals := 49 }) (hX : WF dd m) (hp : PB m 1545 11) (h : fX11_intoBox_14f a1 a2 s = some x) (K : (Sum.elim (fX11_intoBox_14P w l G (QM w G WF none d' m 0 0) m a1 a2) (fun q => q = d')) x) : V w l WF G (QM w G WF none d' m 0 0) s.1 m 0 0 14 [mA 1545, mI a1, mI a2, mI (s.2)] [] := by
  obtain ⟨d, v3⟩ := s
  unfold fX11_intoBox_14f at h
  dsimp only at h
  refine v_iload_n F dX11_intoBox_14 rfl rfl ?_
  refine v_if_le F dX11_intoBox_15 rfl (fun hq5 => ?_) (fun hq5 => ?_)
  · rw [if_pos hq5] at h
    obtain ⟨z, hu, ez⟩ := up_some h
    clear h
    subst ez
    have h := hu
    clear hu
    exact fX11_intoBox_72_ok F hX hp h K
  · rw [if_neg hq5] at h
    refine v_aload_n F dX11_intoBox_18 rfl rfl ?_
    refine v_iload_n F dX11_intoBox_19 rfl rfl ?_
    refine v_aload_n F dX11_intoBox_20 rfl rfl ?_
    refine gf_X11_740 F dX11_intoBox_21 hp (v := 1614) rfl ?_
    refine v_sipush F dX11_intoBox_24 rfl ⟨by decide, by decide⟩ ?_
    refine v_iload_n F dX11_intoBox_27 rfl rfl ?_
    refine v_imul F dX11_intoBox_28 ?_
    refine v_iload_n F dX11_intoBox_29 rfl rfl ?_
    refine v_iadd F dX11_intoBox_30 ?_
    refine v_iconst F dX11_intoBox_31 ⟨by decide, by decide⟩ ?_
    refine v_isub F dX11_intoBox_32 ?_
    obtain ⟨x11, ex11, h⟩ := lv_some h
    refine v_nI ex11 ?_
    obtain ⟨hi12, h⟩ := ck_some h
    refine v_iald F dX11_intoBox_33 (ar_X11_94 hX hp) hi12 ?_
    obtain ⟨x13, hc14, h⟩ := b1_some h
    refine v_callVv (c := 11) F dX11_intoBox_34 cv_X11_743 rfl (PB.ob hp hX (Nat.le_of_ble_eq_true rfl)) (Nat.le_of_ble_eq_true rfl) rfl (vm_X11_isAhead hp hc14) rfl (rOk.of rfl) ?_
    refine v_if_eq F dX11_intoBox_37 rfl (fun hq15 => ?_) (fun hq15 => ?_)
    · rw [if_pos hq15] at h
      obtain ⟨z, hu, ez⟩ := up_some h
      clear h
      subst ez
      have h := hu
      clear hu
      exact fX11_intoBox_72_ok F hX hp h K
    · rw [if_neg hq15] at h
      refine v_aload_n F dX11_intoBox_40 rfl rfl ?_
      refine gf_X11_740 F dX11_intoBox_41 hp (v := 1614) rfl ?_
      refine v_sipush F dX11_intoBox_44 rfl ⟨by decide, by decide⟩ ?_
      refine v_iload_n F dX11_intoBox_47 rfl rfl ?_
      refine v_imul F dX11_intoBox_48 ?_
      refine v_iload_n F dX11_intoBox_49 rfl rfl ?_
      refine v_iadd F dX11_intoBox_50 ?_
      refine v_aload_n F dX11_intoBox_51 rfl rfl ?_
      refine gf_X11_740 F dX11_intoBox_52 hp (v := 1614) rfl ?_
      refine v_sipush F dX11_intoBox_55 rfl ⟨by decide, by decide⟩ ?_
      refine v_iload_n F dX11_intoBox_58 rfl rfl ?_
      refine v_imul F dX11_intoBox_59 ?_
      refine v_iload_n F dX11_intoBox_60 rfl rfl ?_
      refine v_iadd F dX11_intoBox_61 ?_
      refine v_iconst F dX11_intoBox_62 ⟨by decide, by decide⟩ ?_
      refine v_isub F dX11_intoBox_63 ?_
      obtain ⟨x16, ex16, h⟩ := lv_some h
      refine v_nI ex16 ?_
      obtain ⟨hi17, h⟩ := ck_some h
      refine v_iald F dX11_intoBox_64 (ar_X11_94 hX hp) hi17 ?_
      obtain ⟨x18, ex18, h⟩ := lv_some h
      refine v_n2 ex18 ?_
      obtain ⟨hi19, h⟩ := ck_some h
      obtain ⟨d20, ed20, h⟩ := sd_some h
      refine v_iast F dX11_intoBox_65 (ar_X11_94 hX hp) hi19 ?_
      refine v_nD ed20 ?_
      obtain ⟨x21, ex21, h⟩ := lv_some h
      refine v_iincN F dX11_intoBox_66 (Nat.le_of_ble_eq_true rfl) rfl ex21 (L' := [mA 1545, mI a1, mI a2, mI x21]) rfl ?_
      refine v_goto F dX11_intoBox_69 rfl ?_
      cases h
      exact K
theorem fX11_intoBox_14_ok {w : Wd} {l : Launch} {G : Cx} {d m dd : Dt} {a1 a2 v3 : Int} {d' : Dt} {x : Dt} (F : Fx w G cX11_intoBox RX11 4 none { frames := 2, cells := 0, slots := 0, locals := 49 }) (hX : WF dd m) (hp : PB m 1545 11) (h : fX11_intoBox_14 d a1 a2 v3 = some x) (K : (fun q => q = d') x) : V w l WF G (QM w G WF none d' m 0 0) d m 0 0 14 [mA 1545, mI a1, mI a2, mI v3] [] := by
  unfold fX11_intoBox_14 at h
  exact loop_ok (P := fX11_intoBox_14P w l G (QM w G WF none d' m 0 0) m a1 a2) (fun s x hx h1 h2 => fX11_intoBox_14f_ok F hX hp hx (by
    cases x with
    | inl s' => exact h1 s' rfl
    | inr z => cases h2 z rfl; exact K)) h
theorem vm_X11_intoBox {w : Wd} {l : Launch} {d m : Dt} {a1 a2 : Int} {d' : Dt} (hp : PB m 1545 11) (h : fX11_intoBox d a1 a2 = some d') : VM w l WF yX11_intoBox cX11_intoBox 4 none 2 49 0 0 d m [mA 1545, mI a1, mI a2] none d' m := by
  obtain ⟨x, h, K⟩ : ∃ x, fX11_intoBox d a1 a2 = some x ∧ x = d' := ⟨_, h, rfl⟩
  refine VM.of (L := [mA 1545, mI a1, mI a2, mU]) (by decide +kernel) rfl (Nat.le_of_ble_eq_true rfl) fun G F _ => v_fact fun _ hX _ _ => ?_
  unfold fX11_intoBox at h
  refine v_aload_n F dX11_intoBox_0 rfl rfl ?_
  refine gf_X11_658 F dX11_intoBox_1 hp (v := 1605) rfl ?_
  refine v_iload_n F dX11_intoBox_4 rfl rfl ?_
  refine v_iconst F dX11_intoBox_5 ⟨by decide, by decide⟩ ?_
  obtain ⟨hi1, h⟩ := ck_some h
  obtain ⟨d2, ed2, h⟩ := sd_some h
  refine v_iast F dX11_intoBox_6 (ar_X11_85 hX hp) hi1 ?_
  refine v_nD ed2 ?_
  refine v_aload_n F dX11_intoBox_7 rfl rfl ?_
  refine gf_X11_549 F dX11_intoBox_8 hp (v := 1613) rfl ?_
  refine v_iload_n F dX11_intoBox_11 rfl rfl ?_
  obtain ⟨hi3, h⟩ := ck_some h
  refine v_iald F dX11_intoBox_12 (ar_X11_93 hX hp) hi3 ?_
  obtain ⟨x4, ex4, h⟩ := lv_some h
  refine v_nI ex4 ?_
  refine v_istore_n F dX11_intoBox_13 rfl (Nat.le_of_ble_eq_true rfl) (L' := [mA 1545, mI a1, mI a2, mI x4]) rfl ?_
  exact fX11_intoBox_14_ok F hX hp h K
def fX11_mend_37P (w : Wd) (l : Launch) (G : Cx) (Q : State → Prop) (m : Dt) (a1 v2 : Int) (s : Dt × Int) : Prop := V w l WF G Q s.1 m 0 0 37 [mA 1545, mI a1, mI v2, mI (s.2), mU, mU] []
def fX11_mend_74P (w : Wd) (l : Launch) (G : Cx) (Q : State → Prop) (m : Dt) (a1 v2 : Int) (s : Dt × Int) : Prop := V w l WF G Q s.1 m 0 0 74 [mA 1545, mI a1, mI v2, mI (s.2), mU, mU] []
theorem fX11_mend_189_ok {w : Wd} {l : Launch} {G : Cx} {d m dd : Dt} {a1 v2 : Int} {d' : Dt} {r : Int} {x : (Dt × Int)} (F : Fx w G cX11_mend RX11 6 (some .int) { frames := 3, cells := 0, slots := 0, locals := 73 }) (hX : WF dd m) (hp : PB m 1545 11) (h : fX11_mend_189 d a1 v2 = some x) (K : (fun q => q = (d', r)) x) : V w l WF G (QM w G WF (some (mI r)) d' m 0 0) d m 0 0 189 [mA 1545, mI a1, mI v2, mU, mU, mU] [] := by
  unfold fX11_mend_189 at h
  refine v_aload_n F dX11_mend_189 rfl rfl ?_
  refine v_bipush F dX11_mend_190 rfl ⟨by decide, by decide⟩ ?_
  refine v_iload_n F dX11_mend_192 rfl rfl ?_
  refine v_iconst F dX11_mend_193 ⟨by decide, by decide⟩ ?_
  refine v_iconst F dX11_mend_194 ⟨by decide, by decide⟩ ?_
  refine v_iconst F dX11_mend_195 ⟨by decide, by decide⟩ ?_
  obtain ⟨d9, hc10, h⟩ := bd_some h
  refine v_callV0 (c := 11) F dX11_mend_196 cv_X11_22 rfl (PB.ob hp hX (Nat.le_of_ble_eq_true rfl)) (Nat.le_of_ble_eq_true rfl) rfl (vm_X11_write hp hc10) rfl (rOk.of rfl) ?_
  refine v_aload_n F dX11_mend_199 rfl rfl ?_
  refine v_iload_n F dX11_mend_200 rfl rfl ?_
  obtain ⟨x11, hc12, h⟩ := b1_some h
  refine v_callVv (c := 11) F dX11_mend_201 cv_X11_676 rfl (PB.ob hp hX (Nat.le_of_ble_eq_true rfl)) (Nat.le_of_ble_eq_true rfl) rfl (vm_X11_voidsOf hp hc12) rfl (rOk.of rfl) ?_
  refine v_iload_n F dX11_mend_204 rfl rfl ?_
  refine v_isub F dX11_mend_205 ?_
  cases h
  cases (show _ = (d', r) from K)
  exact v_iret F dX11_mend_206
def fX11_mend_88P (w : Wd) (l : Launch) (G : Cx) (Q : State → Prop) (m : Dt) (d : Dt) (a1 v2 v3 : Int) (s : Int × Int) : Prop := V w l WF G Q d m 0 0 88 [mA 1545, mI a1, mI v2, mI v3, mI (s.1), mI (s.2)] []
theorem fX11_mend_165_ok {w : Wd} {l : Launch} {G : Cx} {d m dd : Dt} {a1 v2 v3 v4 : Int} {d' : Dt} {r : Int} {x : ((Dt × Int) ⊕ (Dt × Int))} (F : Fx w G cX11_mend RX11 6 (some .int) { frames := 3, cells := 0, slots := 0, locals := 73 }) (hX : WF dd m) (hp : PB m 1545 11) (h : fX11_mend_165 d a1 v2 v3 v4 = some x) (K : (Sum.elim (fX11_mend_74P w l G (QM w G WF (some (mI r)) d' m 0 0) m a1 v2) (fun q => q = (d', r))) x) : V w l WF G (QM w G WF (some (mI r)) d' m 0 0) d m 0 0 165 [mA 1545, mI a1, mI v2, mI v3, mI v4, mU] [] := by
  unfold fX11_mend_165 at h
  refine v_aload_n F dX11_mend_165 rfl rfl ?_
  refine gf_X11_658 F dX11_mend_166 hp (v := 1605) rfl ?_
  refine v_iload F dX11_mend_169 rfl ?_
  obtain ⟨hi18, h⟩ := ck_some h
  refine v_iald F dX11_mend_171 (ar_X11_85 hX hp) hi18 ?_
  refine v_iconst F dX11_mend_172 ⟨by decide, by decide⟩ ?_
  refine v_icmp_ne F dX11_mend_173 rfl (fun hq19 => ?_) (fun hq19 => ?_)
  · rw [if_neg hq19] at h
    obtain ⟨x20, ex20, h⟩ := lv_some h
    refine v_iincN F dX11_mend_183 (Nat.le_of_ble_eq_true rfl) rfl ex20 (L' := [mA 1545, mI a1, mI v2, mI x20, mI v4, mU]) rfl ?_
    refine v_goto F dX11_mend_186 rfl ?_
    cases h
    refine v_fgt (L' := [mA 1545, mI a1, mI v2, mI x20, mU, mU]) ⟨Or.inl rfl, Or.inl rfl, Or.inl rfl, Or.inl rfl, Or.inr rfl, Or.inl rfl, trivial⟩ ?_
    exact K
  · rw [if_pos hq19] at h
    refine v_aload_n F dX11_mend_176 rfl rfl ?_
    refine v_iload F dX11_mend_177 rfl ?_
    refine v_iload_n F dX11_mend_179 rfl rfl ?_
    obtain ⟨d21, hc22, h⟩ := bd_some h
    refine v_callV0 (c := 11) F dX11_mend_180 cv_X11_688 rfl (PB.ob hp hX (Nat.le_of_ble_eq_true rfl)) (Nat.le_of_ble_eq_true rfl) rfl (vm_X11_intoBox hp hc22) rfl (rOk.of rfl) ?_
    obtain ⟨x23, ex23, h⟩ := lv_some h
    refine v_iincN F dX11_mend_183 (Nat.le_of_ble_eq_true rfl) rfl ex23 (L' := [mA 1545, mI a1, mI v2, mI x23, mI v4, mU]) rfl ?_
    refine v_goto F dX11_mend_186 rfl ?_
    cases h
    refine v_fgt (L' := [mA 1545, mI a1, mI v2, mI x23, mU, mU]) ⟨Or.inl rfl, Or.inl rfl, Or.inl rfl, Or.inl rfl, Or.inr rfl, Or.inl rfl, trivial⟩ ?_
    exact K
theorem fX11_mend_88f_ok {w : Wd} {l : Launch} {G : Cx} {d m dd : Dt} {a1 v2 v3 : Int} {d' : Dt} {r : Int} {s : Int × Int} {x : ((Int × Int) ⊕ ((Dt × Int) ⊕ (Dt × Int)))} (F : Fx w G cX11_mend RX11 6 (some .int) { frames := 3, cells := 0, slots := 0, locals := 73 }) (hX : WF dd m) (hp : PB m 1545 11) (h : fX11_mend_88f d a1 v2 v3 s = some x) (K : (Sum.elim (fX11_mend_88P w l G (QM w G WF (some (mI r)) d' m 0 0) m d a1 v2 v3) (Sum.elim (fX11_mend_74P w l G (QM w G WF (some (mI r)) d' m 0 0) m a1 v2) (fun q => q = (d', r)))) x) : V w l WF G (QM w G WF (some (mI r)) d' m 0 0) d m 0 0 88 [mA 1545, mI a1, mI v2, mI v3, mI (s.1), mI (s.2)] [] := by
  obtain ⟨v4, v5⟩ := s
  unfold fX11_mend_88f at h
  dsimp only at h
  refine v_iload F dX11_mend_88 rfl ?_
  refine v_aload_n F dX11_mend_90 rfl rfl ?_
  refine gf_X11_543 F dX11_mend_91 hp ?_
  refine v_icmp_ge F dX11_mend_94 rfl (fun hq13 => ?_) (fun hq13 => ?_)
  · rw [if_pos hq13] at h
    obtain ⟨z, hu, ez⟩ := up_some h
    clear h
    subst ez
    have h := hu
    clear hu
    refine v_iload F dX11_mend_133 rfl ?_
    refine v_if_ge F dX11_mend_135 rfl (fun hq14 => ?_) (fun hq14 => ?_)
    · rw [if_pos hq14] at h
      refine v_aload_n F dX11_mend_141 rfl rfl ?_
      refine gf_X11_679 F dX11_mend_142 hp (v := 1612) rfl ?_
      refine v_iload F dX11_mend_145 rfl ?_
      refine v_iconst F dX11_mend_147 ⟨by decide, by decide⟩ ?_
      obtain ⟨hi15, h⟩ := ck_some h
      obtain ⟨d16, ed16, h⟩ := sd_some h
      refine v_zast F dX11_mend_148 (ar_X11_92 hX hp) hi15 ?_
      refine v_nD ed16 ?_
      refine v_aload_n F dX11_mend_149 rfl rfl ?_
      refine gf_X11_667 F dX11_mend_150 hp (v := 1607) rfl ?_
      refine v_iload F dX11_mend_153 rfl ?_
      refine v_zald F dX11_mend_155 (ar_X11_87 hX hp) hi15 ?_
      refine v_if_ne F dX11_mend_156 rfl (fun hq17 => ?_) (fun hq17 => ?_)
      · rw [if_neg hq17] at h
        refine v_fgt (L' := [mA 1545, mI a1, mI v2, mI v3, mI v4, mU]) ⟨Or.inl rfl, Or.inl rfl, Or.inl rfl, Or.inl rfl, Or.inl rfl, Or.inr rfl, trivial⟩ ?_
        exact fX11_mend_165_ok F hX hp h K
      · rw [if_pos hq17] at h
        refine v_aload_n F dX11_mend_159 rfl rfl ?_
        refine v_iload F dX11_mend_160 rfl ?_
        obtain ⟨d24, hc25, h⟩ := bd_some h
        refine v_callV0 (c := 11) F dX11_mend_162 cv_X11_685 rfl (PB.ob hp hX (Nat.le_of_ble_eq_true rfl)) (Nat.le_of_ble_eq_true rfl) rfl (vm_X11_joins hp hc25) rfl (rOk.of rfl) ?_
        refine v_fgt (L' := [mA 1545, mI a1, mI v2, mI v3, mI v4, mU]) ⟨Or.inl rfl, Or.inl rfl, Or.inl rfl, Or.inl rfl, Or.inl rfl, Or.inr rfl, trivial⟩ ?_
        exact fX11_mend_165_ok F hX hp h K
    · rw [if_neg hq14] at h
      obtain ⟨z, hu, ez⟩ := up_some h
      clear h
      subst ez
      have h := hu
      clear hu
      refine v_goto F dX11_mend_138 rfl ?_
      refine v_fgt (L' := [mA 1545, mI a1, mI v2, mU, mU, mU]) ⟨Or.inl rfl, Or.inl rfl, Or.inl rfl, Or.inr rfl, Or.inr rfl, Or.inr rfl, trivial⟩ ?_
      exact fX11_mend_189_ok F hX hp h K
  · rw [if_neg hq13] at h
    refine v_aload_n F dX11_mend_97 rfl rfl ?_
    refine gf_X11_679 F dX11_mend_98 hp (v := 1612) rfl ?_
    refine v_iload F dX11_mend_101 rfl ?_
    obtain ⟨hi26, h⟩ := ck_some h
    refine v_zald F dX11_mend_103 (ar_X11_92 hX hp) hi26 ?_
    refine v_if_ne F dX11_mend_104 rfl (fun hq27 => ?_) (fun hq27 => ?_)
    · rw [if_neg hq27] at h
      obtain ⟨x28, ex28, h⟩ := lv_some h
      refine v_iincN F dX11_mend_127 (Nat.le_of_ble_eq_true rfl) rfl ex28 (L' := [mA 1545, mI a1, mI v2, mI v3, mI v4, mI x28]) rfl ?_
      refine v_goto F dX11_mend_130 rfl ?_
      cases h
      exact K
    · rw [if_pos hq27] at h
      refine v_iload F dX11_mend_107 rfl ?_
      refine v_if_lt F dX11_mend_109 rfl (fun hq29 => ?_) (fun hq29 => ?_)
      · rw [if_pos hq29] at h
        refine v_iload F dX11_mend_123 rfl ?_
        refine v_istore F dX11_mend_125 (Nat.le_of_ble_eq_true rfl) (L' := [mA 1545, mI a1, mI v2, mI v3, mI v5, mI v5]) rfl ?_
        obtain ⟨x30, ex30, h⟩ := lv_some h
        refine v_iincN F dX11_mend_127 (Nat.le_of_ble_eq_true rfl) rfl ex30 (L' := [mA 1545, mI a1, mI v2, mI v3, mI v5, mI x30]) rfl ?_
        refine v_goto F dX11_mend_130 rfl ?_
        cases h
        exact K
      · rw [if_neg hq29] at h
        refine v_aload_n F dX11_mend_112 rfl rfl ?_
        refine v_iload F dX11_mend_113 rfl ?_
        refine v_iload F dX11_mend_115 rfl ?_
        obtain ⟨x31, hc32, h⟩ := b1_some h
        refine v_callVv (c := 11) F dX11_mend_117 cv_X11_682 rfl (PB.ob hp hX (Nat.le_of_ble_eq_true rfl)) (Nat.le_of_ble_eq_true rfl) rfl (vm_X11_isBehind hp hc32) rfl (rOk.of rfl) ?_
        refine v_if_eq F dX11_mend_120 rfl (fun hq33 => ?_) (fun hq33 => ?_)
        · rw [if_pos hq33] at h
          obtain ⟨x34, ex34, h⟩ := lv_some h
          refine v_iincN F dX11_mend_127 (Nat.le_of_ble_eq_true rfl) rfl ex34 (L' := [mA 1545, mI a1, mI v2, mI v3, mI v4, mI x34]) rfl ?_
          refine v_goto F dX11_mend_130 rfl ?_
          cases h
          exact K
        · rw [if_neg hq33] at h
          refine v_iload F dX11_mend_123 rfl ?_
          refine v_istore F dX11_mend_125 (Nat.le_of_ble_eq_true rfl) (L' := [mA 1545, mI a1, mI v2, mI v3, mI v5, mI v5]) rfl ?_
          obtain ⟨x35, ex35, h⟩ := lv_some h
          refine v_iincN F dX11_mend_127 (Nat.le_of_ble_eq_true rfl) rfl ex35 (L' := [mA 1545, mI a1, mI v2, mI v3, mI v5, mI x35]) rfl ?_
          refine v_goto F dX11_mend_130 rfl ?_
          cases h
          exact K
theorem fX11_mend_88_ok {w : Wd} {l : Launch} {G : Cx} {d m dd : Dt} {a1 v2 v3 v4 v5 : Int} {d' : Dt} {r : Int} {x : ((Dt × Int) ⊕ (Dt × Int))} (F : Fx w G cX11_mend RX11 6 (some .int) { frames := 3, cells := 0, slots := 0, locals := 73 }) (hX : WF dd m) (hp : PB m 1545 11) (h : fX11_mend_88 d a1 v2 v3 v4 v5 = some x) (K : (Sum.elim (fX11_mend_74P w l G (QM w G WF (some (mI r)) d' m 0 0) m a1 v2) (fun q => q = (d', r))) x) : V w l WF G (QM w G WF (some (mI r)) d' m 0 0) d m 0 0 88 [mA 1545, mI a1, mI v2, mI v3, mI v4, mI v5] [] := by
  unfold fX11_mend_88 at h
  exact loop_ok (P := fX11_mend_88P w l G (QM w G WF (some (mI r)) d' m 0 0) m d a1 v2 v3) (fun s x hx h1 h2 => fX11_mend_88f_ok F hX hp hx (by
    cases x with
    | inl s' => exact h1 s' rfl
    | inr z => cases h2 z rfl; exact K)) h
theorem fX11_mend_74f_ok {w : Wd} {l : Launch} {G : Cx} {m dd : Dt} {a1 v2 : Int} {d' : Dt} {r : Int} {s : Dt × Int} {x : ((Dt × Int) ⊕ (Dt × Int))} (F : Fx w G cX11_mend RX11 6 (some .int) { frames := 3, cells := 0, slots := 0, locals := 73 }) (hX : WF dd m) (hp : PB m 1545 11) (h : fX11_mend_74f a1 v2 s = some x) (K : (Sum.elim (fX11_mend_74P w l G (QM w G WF (some (mI r)) d' m 0 0) m a1 v2) (fun q => q = (d', r))) x) : V w l WF G (QM w G WF (some (mI r)) d' m 0 0) s.1 m 0 0 74 [mA 1545, mI a1, mI v2, mI (s.2), mU, mU] [] := by
  obtain ⟨d, v3⟩ := s
  unfold fX11_mend_74f at h
  dsimp only at h
  refine v_iload_n F dX11_mend_74 rfl rfl ?_
  refine v_aload_n F dX11_mend_75 rfl rfl ?_
  refine gf_X11_543 F dX11_mend_76 hp ?_
  refine v_icmp_ge F dX11_mend_79 rfl (fun hq8 => ?_) (fun hq8 => ?_)
  · rw [if_pos hq8] at h
    obtain ⟨z, hu, ez⟩ := up_some h
    clear h
    subst ez
    have h := hu
    clear hu
    refine v_fgt (L' := [mA 1545, mI a1, mI v2, mU, mU, mU]) ⟨Or.inl rfl, Or.inl rfl, Or.inl rfl, Or.inr rfl, Or.inl rfl, Or.inl rfl, trivial⟩ ?_
    exact fX11_mend_189_ok F hX hp h K
  · rw [if_neg hq8] at h
    refine v_iconst F dX11_mend_82 ⟨by decide, by decide⟩ ?_
    refine v_istore F dX11_mend_83 (Nat.le_of_ble_eq_true rfl) (L' := [mA 1545, mI a1, mI v2, mI v3, mI (-1), mU]) rfl ?_
    refine v_iconst F dX11_mend_85 ⟨by decide, by decide⟩ ?_
    refine v_istore F dX11_mend_86 (Nat.le_of_ble_eq_true rfl) (L' := [mA 1545, mI a1, mI v2, mI v3, mI (-1), mI 0]) rfl ?_
    exact fX11_mend_88_ok F hX hp h K
theorem fX11_mend_74_ok {w : Wd} {l : Launch} {G : Cx} {d m dd : Dt} {a1 v2 v3 : Int} {d' : Dt} {r : Int} {x : (Dt × Int)} (F : Fx w G cX11_mend RX11 6 (some .int) { frames := 3, cells := 0, slots := 0, locals := 73 }) (hX : WF dd m) (hp : PB m 1545 11) (h : fX11_mend_74 d a1 v2 v3 = some x) (K : (fun q => q = (d', r)) x) : V w l WF G (QM w G WF (some (mI r)) d' m 0 0) d m 0 0 74 [mA 1545, mI a1, mI v2, mI v3, mU, mU] [] := by
  unfold fX11_mend_74 at h
  exact loop_ok (P := fX11_mend_74P w l G (QM w G WF (some (mI r)) d' m 0 0) m a1 v2) (fun s x hx h1 h2 => fX11_mend_74f_ok F hX hp hx (by
    cases x with
    | inl s' => exact h1 s' rfl
    | inr z => cases h2 z rfl; exact K)) h
theorem fX11_mend_65_ok {w : Wd} {l : Launch} {G : Cx} {d m dd : Dt} {a1 v2 v3 s1 s2 : Int} {d' : Dt} {r : Int} {x : ((Dt × Int) ⊕ (Dt × Int))} (F : Fx w G cX11_mend RX11 6 (some .int) { frames := 3, cells := 0, slots := 0, locals := 73 }) (hX : WF dd m) (hp : PB m 1545 11) (h : fX11_mend_65 d a1 v2 v3 s1 s2 = some x) (K : (Sum.elim (fX11_mend_37P w l G (QM w G WF (some (mI r)) d' m 0 0) m a1 v2) (fun q => q = (d', r))) x) : V w l WF G (QM w G WF (some (mI r)) d' m 0 0) d m 0 0 65 [mA 1545, mI a1, mI v2, mI v3, mU, mU] [mI s2, mI s1, mA 1612] := by
  unfold fX11_mend_65 at h
  obtain ⟨hi38, h⟩ := ck_some h
  obtain ⟨d39, ed39, h⟩ := sd_some h
  refine v_zast F dX11_mend_65 (ar_X11_92 hX hp) hi38 ?_
  refine v_nD ed39 ?_
  obtain ⟨x40, ex40, h⟩ := lv_some h
  refine v_iincN F dX11_mend_66 (Nat.le_of_ble_eq_true rfl) rfl ex40 (L' := [mA 1545, mI a1, mI v2, mI x40, mU, mU]) rfl ?_
  refine v_goto F dX11_mend_69 rfl ?_
  cases h
  exact K
theorem fX11_mend_37f_ok {w : Wd} {l : Launch} {G : Cx} {m dd : Dt} {a1 v2 : Int} {d' : Dt} {r : Int} {s : Dt × Int} {x : ((Dt × Int) ⊕ (Dt × Int))} (F : Fx w G cX11_mend RX11 6 (some .int) { frames := 3, cells := 0, slots := 0, locals := 73 }) (hX : WF dd m) (hp : PB m 1545 11) (h : fX11_mend_37f a1 v2 s = some x) (K : (Sum.elim (fX11_mend_37P w l G (QM w G WF (some (mI r)) d' m 0 0) m a1 v2) (fun q => q = (d', r))) x) : V w l WF G (QM w G WF (some (mI r)) d' m 0 0) s.1 m 0 0 37 [mA 1545, mI a1, mI v2, mI (s.2), mU, mU] [] := by
  obtain ⟨d, v3⟩ := s
  unfold fX11_mend_37f at h
  dsimp only at h
  refine v_iload_n F dX11_mend_37 rfl rfl ?_
  refine v_aload_n F dX11_mend_38 rfl rfl ?_
  refine gf_X11_543 F dX11_mend_39 hp ?_
  refine v_icmp_ge F dX11_mend_42 rfl (fun hq7 => ?_) (fun hq7 => ?_)
  · rw [if_pos hq7] at h
    obtain ⟨z, hu, ez⟩ := up_some h
    clear h
    subst ez
    have h := hu
    clear hu
    refine v_iconst F dX11_mend_72 ⟨by decide, by decide⟩ ?_
    refine v_istore_n F dX11_mend_73 rfl (Nat.le_of_ble_eq_true rfl) (L' := [mA 1545, mI a1, mI v2, mI 0, mU, mU]) rfl ?_
    exact fX11_mend_74_ok F hX hp h K
  · rw [if_neg hq7] at h
    refine v_aload_n F dX11_mend_45 rfl rfl ?_
    refine gf_X11_679 F dX11_mend_46 hp (v := 1612) rfl ?_
    refine v_iload_n F dX11_mend_49 rfl rfl ?_
    refine v_aload_n F dX11_mend_50 rfl rfl ?_
    refine gf_X11_661 F dX11_mend_51 hp (v := 1604) rfl ?_
    refine v_iload_n F dX11_mend_54 rfl rfl ?_
    obtain ⟨hi36, h⟩ := ck_some h
    refine v_iald F dX11_mend_55 (ar_X11_84 hX hp) hi36 ?_
    refine v_iload_n F dX11_mend_56 rfl rfl ?_
    refine v_icmp_eq F dX11_mend_57 rfl (fun hq37 => ?_) (fun hq37 => ?_)
    · rw [if_pos hq37] at h
      refine v_iconst F dX11_mend_64 ⟨by decide, by decide⟩ ?_
      exact fX11_mend_65_ok F hX hp h K
    · rw [if_neg hq37] at h
      refine v_iconst F dX11_mend_60 ⟨by decide, by decide⟩ ?_
      refine v_goto F dX11_mend_61 rfl ?_
      exact fX11_mend_65_ok F hX hp h K
theorem fX11_mend_37_ok {w : Wd} {l : Launch} {G : Cx} {d m dd : Dt} {a1 v2 v3 : Int} {d' : Dt} {r : Int} {x : (Dt × Int)} (F : Fx w G cX11_mend RX11 6 (some .int) { frames := 3, cells := 0, slots := 0, locals := 73 }) (hX : WF dd m) (hp : PB m 1545 11) (h : fX11_mend_37 d a1 v2 v3 = some x) (K : (fun q => q = (d', r)) x) : V w l WF G (QM w G WF (some (mI r)) d' m 0 0) d m 0 0 37 [mA 1545, mI a1, mI v2, mI v3, mU, mU] [] := by
  unfold fX11_mend_37 at h
  exact loop_ok (P := fX11_mend_37P w l G (QM w G WF (some (mI r)) d' m 0 0) m a1 v2) (fun s x hx h1 h2 => fX11_mend_37f_ok F hX hp hx (by
    cases x with
    | inl s' => exact h1 s' rfl
    | inr z => cases h2 z rfl; exact K)) h
theorem vm_X11_mend {w : Wd} {l : Launch} {d m : Dt} {a1 : Int} {d' : Dt} {r : Int} (hp : PB m 1545 11) (h : fX11_mend d a1 = some (d', r)) : VM w l WF yX11_mend cX11_mend 6 (some .int) 3 73 0 0 d m [mA 1545, mI a1] (some (mI r)) d' m := by
  obtain ⟨x, h, K⟩ : ∃ x, fX11_mend d a1 = some x ∧ x = (d', r) := ⟨_, h, rfl⟩
  refine VM.of (L := [mA 1545, mI a1, mU, mU, mU, mU]) (by decide +kernel) rfl (Nat.le_of_ble_eq_true rfl) fun G F _ => v_fact fun _ hX _ _ => ?_
  unfold fX11_mend at h
  refine v_aload_n F dX11_mend_0 rfl rfl ?_
  refine v_iload_n F dX11_mend_1 rfl rfl ?_
  refine v_callVv (c := 11) F dX11_mend_2 cv_X11_655 rfl (PB.ob hp hX (Nat.le_of_ble_eq_true rfl)) (Nat.le_of_ble_eq_true rfl) rfl (vm_X11_isStation hp) rfl (rOk.of rfl) ?_
  refine v_if_ne F dX11_mend_5 rfl (fun hq1 => ?_) (fun hq1 => ?_)
  · rw [if_neg hq1] at h
    refine v_aload_n F dX11_mend_10 rfl rfl ?_
    refine gf_X11_652 F dX11_mend_11 hp (v := 1602) rfl ?_
    refine v_iload_n F dX11_mend_14 rfl rfl ?_
    obtain ⟨hi2, h⟩ := ck_some h
    refine v_zald F dX11_mend_15 (ar_X11_81 hX hp) hi2 ?_
    refine v_if_ne F dX11_mend_16 rfl (fun hq3 => ?_) (fun hq3 => ?_)
    · rw [if_neg hq3] at h
      refine v_aload_n F dX11_mend_22 rfl rfl ?_
      refine gf_X11_652 F dX11_mend_23 hp (v := 1602) rfl ?_
      refine v_iload_n F dX11_mend_26 rfl rfl ?_
      refine v_iconst F dX11_mend_27 ⟨by decide, by decide⟩ ?_
      obtain ⟨d4, ed4, h⟩ := sd_some h
      refine v_zast F dX11_mend_28 (ar_X11_81 hX hp) hi2 ?_
      refine v_nD ed4 ?_
      refine v_aload_n F dX11_mend_29 rfl rfl ?_
      refine v_iload_n F dX11_mend_30 rfl rfl ?_
      obtain ⟨x5, hc6, h⟩ := b1_some h
      refine v_callVv (c := 11) F dX11_mend_31 cv_X11_676 rfl (PB.ob hp hX (Nat.le_of_ble_eq_true rfl)) (Nat.le_of_ble_eq_true rfl) rfl (vm_X11_voidsOf hp hc6) rfl (rOk.of rfl) ?_
      refine v_istore_n F dX11_mend_34 rfl (Nat.le_of_ble_eq_true rfl) (L' := [mA 1545, mI a1, mI x5, mU, mU, mU]) rfl ?_
      refine v_iconst F dX11_mend_35 ⟨by decide, by decide⟩ ?_
      refine v_istore_n F dX11_mend_36 rfl (Nat.le_of_ble_eq_true rfl) (L' := [mA 1545, mI a1, mI x5, mI 0, mU, mU]) rfl ?_
      exact fX11_mend_37_ok F hX hp h K
    · rw [if_pos hq3] at h
      refine v_bipush F dX11_mend_19 rfl ⟨by decide, by decide⟩ ?_
      cases h
      cases (show _ = (d', r) from K)
      exact v_iret F dX11_mend_21
  · rw [if_pos hq1] at h
    refine v_iconst F dX11_mend_8 ⟨by decide, by decide⟩ ?_
    cases h
    cases (show _ = (d', r) from K)
    exact v_iret F dX11_mend_9
theorem vm_X0_isVoting {w : Wd} {l : Launch} {d m : Dt} {r : Int} (hp : PB m 1 0) (h : fX0_isVoting d = some r) : VM w l WF yX0_isVoting cX0_isVoting 1 (some .boolean) 1 22 0 0 d m [mA 1] (some (mI r)) d m := by
  obtain ⟨x, h, K⟩ : ∃ x, fX0_isVoting d = some x ∧ x = r := ⟨_, h, rfl⟩
  refine VM.of (L := [mA 1]) (by decide +kernel) rfl (Nat.le_of_ble_eq_true rfl) fun G F _ => v_fact fun _ hX _ _ => ?_
  unfold fX0_isVoting at h
  refine v_aload_n F dX0_isVoting_0 rfl rfl ?_
  refine gf_X0_265 F dX0_isVoting_1 hp ?_
  refine v_if_eq F dX0_isVoting_4 rfl (fun hq1 => ?_) (fun hq1 => ?_)
  · rw [if_pos hq1] at h
    refine v_iconst F dX0_isVoting_39 ⟨by decide, by decide⟩ ?_
    cases h
    cases (show _ = r from K)
    exact v_zret F (Or.inl rfl) dX0_isVoting_40
  · rw [if_neg hq1] at h
    refine v_aload_n F dX0_isVoting_7 rfl rfl ?_
    refine gf_X0_167 F dX0_isVoting_8 hp ?_
    refine v_aload_n F dX0_isVoting_11 rfl rfl ?_
    obtain ⟨x2, ex2, h⟩ := lv_some h
    obtain ⟨hn4, h⟩ := ck_some h
    refine gf_X0_42 F dX0_isVoting_12 hp ex2 fun hr3 => ?_
    have x2p := hr3.resolve_left hn4
    refine gf_X0_293 F dX0_isVoting_15 x2p (v := (x2 + 1)) rfl ?_
    refine v_iconst F dX0_isVoting_18 ⟨by decide, by decide⟩ ?_
    refine v_iald F dX0_isVoting_19 (ar_X4_0 hX x2p) ⟨by decide, by decide⟩ ?_
    refine v_aload_n F dX0_isVoting_20 rfl rfl ?_
    obtain ⟨x5, ex5, h⟩ := lv_some h
    obtain ⟨hn7, h⟩ := ck_some h
    refine gf_X0_42 F dX0_isVoting_21 hp ex5 fun hr6 => ?_
    have x5p := hr6.resolve_left hn7
    refine gf_X0_293 F dX0_isVoting_24 x5p (v := (x5 + 1)) rfl ?_
    refine v_iconst F dX0_isVoting_27 ⟨by decide, by decide⟩ ?_
    refine v_iald F dX0_isVoting_28 (ar_X4_0 hX x5p) ⟨by decide, by decide⟩ ?_
    refine v_callSv F dX0_isVoting_29 cs_X0_163 rfl (vm_X0_within) rfl (rOk.of rfl) ?_
    refine v_if_eq F dX0_isVoting_32 rfl (fun hq8 => ?_) (fun hq8 => ?_)
    · rw [if_pos hq8] at h
      refine v_iconst F dX0_isVoting_39 ⟨by decide, by decide⟩ ?_
      cases h
      cases (show _ = r from K)
      exact v_zret F (Or.inl rfl) dX0_isVoting_40
    · rw [if_neg hq8] at h
      refine v_iconst F dX0_isVoting_35 ⟨by decide, by decide⟩ ?_
      refine v_goto F dX0_isVoting_36 rfl ?_
      cases h
      cases (show _ = r from K)
      exact v_zret F (Or.inr rfl) dX0_isVoting_40
theorem vm_X0_isOnRoll {w : Wd} {l : Launch} {d m : Dt} {a1 : Int} {r : Int} (hp : PB m 1 0) (h : fX0_isOnRoll d a1 = some r) : VM w l WF yX0_isOnRoll cX0_isOnRoll 2 (some .boolean) 0 0 0 0 d m [mA 1, mI a1] (some (mI r)) d m := by
  obtain ⟨x, h, K⟩ : ∃ x, fX0_isOnRoll d a1 = some x ∧ x = r := ⟨_, h, rfl⟩
  refine VM.of (L := [mA 1, mI a1]) (by decide +kernel) rfl (Nat.le_of_ble_eq_true rfl) fun G F _ => v_fact fun _ hX _ _ => ?_
  unfold fX0_isOnRoll at h
  refine v_aload_n F dX0_isOnRoll_0 rfl rfl ?_
  refine gf_X0_86 F dX0_isOnRoll_1 hp (v := 63) rfl ?_
  refine v_iload_n F dX0_isOnRoll_4 rfl rfl ?_
  obtain ⟨hi1, h⟩ := ck_some h
  refine v_iald F dX0_isOnRoll_5 (ar_X0_22 hX hp) hi1 ?_
  refine v_iconst F dX0_isOnRoll_6 ⟨by decide, by decide⟩ ?_
  refine v_icmp_eq F dX0_isOnRoll_7 rfl (fun hq2 => ?_) (fun hq2 => ?_)
  · rw [if_pos hq2] at h
    refine v_iconst F dX0_isOnRoll_28 ⟨by decide, by decide⟩ ?_
    cases h
    cases (show _ = r from K)
    exact v_zret F (Or.inl rfl) dX0_isOnRoll_29
  · rw [if_neg hq2] at h
    refine v_aload_n F dX0_isOnRoll_10 rfl rfl ?_
    refine gf_X0_82 F dX0_isOnRoll_11 hp (v := 62) rfl ?_
    refine v_aload_n F dX0_isOnRoll_14 rfl rfl ?_
    refine gf_X0_86 F dX0_isOnRoll_15 hp (v := 63) rfl ?_
    refine v_iload_n F dX0_isOnRoll_18 rfl rfl ?_
    refine v_iald F dX0_isOnRoll_19 (ar_X0_22 hX hp) hi1 ?_
    obtain ⟨x3, ex3, h⟩ := lv_some h
    refine v_nI ex3 ?_
    obtain ⟨hi4, h⟩ := ck_some h
    refine v_zald F dX0_isOnRoll_20 (ar_X0_20 hX hp) hi4 ?_
    refine v_if_eq F dX0_isOnRoll_21 rfl (fun hq5 => ?_) (fun hq5 => ?_)
    · rw [if_pos hq5] at h
      refine v_iconst F dX0_isOnRoll_28 ⟨by decide, by decide⟩ ?_
      cases h
      cases (show _ = r from K)
      exact v_zret F (Or.inl rfl) dX0_isOnRoll_29
    · rw [if_neg hq5] at h
      refine v_iconst F dX0_isOnRoll_24 ⟨by decide, by decide⟩ ?_
      refine v_goto F dX0_isOnRoll_25 rfl ?_
      cases h
      cases (show _ = r from K)
      exact v_zret F (Or.inr rfl) dX0_isOnRoll_29
def fX0_hasIssue_2P (w : Wd) (l : Launch) (G : Cx) (Q : State → Prop) (m : Dt) (d : Dt) (a1 a2 : Int) (s : Int) : Prop := V w l WF G Q d m 0 0 2 [mA 1, mI a1, mI a2, mI (s), mU, mU, mU] []
theorem fX0_hasIssue_56_ok {w : Wd} {l : Launch} {G : Cx} {d m dd : Dt} {a1 a2 v3 v4 v5 s0 : Int} {r : Int} {x : ((Int) ⊕ Int)} (F : Fx w G cX0_hasIssue RX0 7 (some .boolean) { frames := 1, cells := 0, slots := 0, locals := 23 }) (hX : WF dd m) (hp : PB m 1 0) (hv4 : PB m v4 14) (h : fX0_hasIssue_56 d a1 a2 v3 v4 v5 s0 = some x) (K : (Sum.elim (fX0_hasIssue_2P w l G (QM w G WF (some (mI r)) d m 0 0) m d a1 a2) (fun q => q = r)) x) : V w l WF G (QM w G WF (some (mI r)) d m 0 0) d m 0 0 56 [mA 1, mI a1, mI a2, mI v3, mA v4, mI v5, mU] [mI s0] := by
  unfold fX0_hasIssue_56 at h
  refine v_istore F dX0_hasIssue_56 (Nat.le_of_ble_eq_true rfl) (L' := [mA 1, mI a1, mI a2, mI v3, mA v4, mI v5, mI s0]) rfl ?_
  refine v_aload F dX0_hasIssue_58 rfl ?_
  refine gf_X0_449 F dX0_hasIssue_60 hv4 ?_
  refine v_iload_n F dX0_hasIssue_63 rfl rfl ?_
  refine v_icmp_ne F dX0_hasIssue_64 rfl (fun hq10 => ?_) (fun hq10 => ?_)
  · rw [if_neg hq10] at h
    obtain ⟨x11, ex11, h⟩ := lv_some h
    refine v_iincN F dX0_hasIssue_82 (Nat.le_of_ble_eq_true rfl) rfl ex11 (L' := [mA 1, mI a1, mI a2, mI x11, mA v4, mI v5, mI s0]) rfl ?_
    refine v_goto F dX0_hasIssue_85 rfl ?_
    cases h
    refine v_fgt (L' := [mA 1, mI a1, mI a2, mI x11, mU, mU, mU]) ⟨Or.inl rfl, Or.inl rfl, Or.inl rfl, Or.inl rfl, Or.inr rfl, Or.inr rfl, Or.inr rfl, trivial⟩ ?_
    exact K
  · rw [if_pos hq10] at h
    refine v_iload F dX0_hasIssue_67 rfl ?_
    refine v_callSv F dX0_hasIssue_69 cs_X0_485 rfl (vm_X15_lives_2) rfl (rOk.of rfl) ?_
    refine v_if_eq F dX0_hasIssue_72 rfl (fun hq12 => ?_) (fun hq12 => ?_)
    · rw [if_pos hq12] at h
      obtain ⟨x13, ex13, h⟩ := lv_some h
      refine v_iincN F dX0_hasIssue_82 (Nat.le_of_ble_eq_true rfl) rfl ex13 (L' := [mA 1, mI a1, mI a2, mI x13, mA v4, mI v5, mI s0]) rfl ?_
      refine v_goto F dX0_hasIssue_85 rfl ?_
      cases h
      refine v_fgt (L' := [mA 1, mI a1, mI a2, mI x13, mU, mU, mU]) ⟨Or.inl rfl, Or.inl rfl, Or.inl rfl, Or.inl rfl, Or.inr rfl, Or.inr rfl, Or.inr rfl, trivial⟩ ?_
      exact K
    · rw [if_neg hq12] at h
      refine v_iload F dX0_hasIssue_75 rfl ?_
      refine v_if_ne F dX0_hasIssue_77 rfl (fun hq14 => ?_) (fun hq14 => ?_)
      · rw [if_neg hq14] at h
        obtain ⟨x15, ex15, h⟩ := lv_some h
        refine v_iincN F dX0_hasIssue_82 (Nat.le_of_ble_eq_true rfl) rfl ex15 (L' := [mA 1, mI a1, mI a2, mI x15, mA v4, mI v5, mI s0]) rfl ?_
        refine v_goto F dX0_hasIssue_85 rfl ?_
        cases h
        refine v_fgt (L' := [mA 1, mI a1, mI a2, mI x15, mU, mU, mU]) ⟨Or.inl rfl, Or.inl rfl, Or.inl rfl, Or.inl rfl, Or.inr rfl, Or.inr rfl, Or.inr rfl, trivial⟩ ?_
        exact K
      · rw [if_pos hq14] at h
        obtain ⟨z, hu, ez⟩ := up_some h
        clear h
        subst ez
        have h := hu
        clear hu
        refine v_iconst F dX0_hasIssue_80 ⟨by decide, by decide⟩ ?_
        cases h
        cases (show _ = r from K)
        exact v_zret F (Or.inr rfl) dX0_hasIssue_81
theorem fX0_hasIssue_2f_ok {w : Wd} {l : Launch} {G : Cx} {d m dd : Dt} {a1 a2 : Int} {r : Int} {s : Int} {x : ((Int) ⊕ Int)} (F : Fx w G cX0_hasIssue RX0 7 (some .boolean) { frames := 1, cells := 0, slots := 0, locals := 23 }) (hX : WF dd m) (hp : PB m 1 0) (h : fX0_hasIssue_2f d a1 a2 s = some x) (K : (Sum.elim (fX0_hasIssue_2P w l G (QM w G WF (some (mI r)) d m 0 0) m d a1 a2) (fun q => q = r)) x) : V w l WF G (QM w G WF (some (mI r)) d m 0 0) d m 0 0 2 [mA 1, mI a1, mI a2, mI (s), mU, mU, mU] [] := by
  obtain ⟨v3, rfl⟩ : ∃ z, z = s := ⟨s, rfl⟩
  unfold fX0_hasIssue_2f at h
  dsimp only at h
  refine v_iload_n F dX0_hasIssue_2 rfl rfl ?_
  refine v_aload_n F dX0_hasIssue_3 rfl rfl ?_
  refine gf_X0_277 F dX0_hasIssue_4 hp ?_
  refine v_icmp_ge F dX0_hasIssue_7 rfl (fun hq1 => ?_) (fun hq1 => ?_)
  · rw [if_pos hq1] at h
    obtain ⟨z, hu, ez⟩ := up_some h
    clear h
    subst ez
    have h := hu
    clear hu
    refine v_iconst F dX0_hasIssue_88 ⟨by decide, by decide⟩ ?_
    cases h
    cases (show _ = r from K)
    exact v_zret F (Or.inl rfl) dX0_hasIssue_89
  · rw [if_neg hq1] at h
    refine v_aload_n F dX0_hasIssue_10 rfl rfl ?_
    refine gf_X0_111 F dX0_hasIssue_11 hp (v := 76) rfl ?_
    refine v_iload_n F dX0_hasIssue_14 rfl rfl ?_
    obtain ⟨hi2, h⟩ := ck_some h
    obtain ⟨x3, ex3, h⟩ := lv_some h
    obtain ⟨hn5, h⟩ := ck_some h
    refine v_aaldN (t := 112) (c := 14) F dX0_hasIssue_15 (ar_X0_31 hX hp) (Nat.le_of_ble_eq_true rfl) rfl rfl rfl rfl rfl hi2 ex3 fun hr4 => ?_
    have x3p := hr4.resolve_left hn5
    refine v_astore F dX0_hasIssue_16 (Nat.le_of_ble_eq_true rfl) (L' := [mA 1, mI a1, mI a2, mI v3, mA x3, mU, mU]) rfl ?_
    refine v_aload_n F dX0_hasIssue_18 rfl rfl ?_
    refine v_iload_n F dX0_hasIssue_19 rfl rfl ?_
    refine v_iload_n F dX0_hasIssue_20 rfl rfl ?_
    obtain ⟨x6, hc7, h⟩ := b1_some h
    refine v_callVv (c := 0) F dX0_hasIssue_21 cv_X0_439 rfl (PB.ob hp hX (Nat.le_of_ble_eq_true rfl)) (Nat.le_of_ble_eq_true rfl) rfl (vm_X0_knownTo hp hc7) rfl (rOk.of rfl) ?_
    refine v_istore F dX0_hasIssue_24 (Nat.le_of_ble_eq_true rfl) (L' := [mA 1, mI a1, mI a2, mI v3, mA x3, mI x6, mU]) rfl ?_
    refine v_aload_n F dX0_hasIssue_26 rfl rfl ?_
    refine gf_X0_101 F dX0_hasIssue_27 hp (v := 68) rfl ?_
    refine v_iload_n F dX0_hasIssue_30 rfl rfl ?_
    obtain ⟨hi8, h⟩ := ck_some h
    refine v_zald F dX0_hasIssue_31 (ar_X0_28 hX hp) hi8 ?_
    refine v_if_ne F dX0_hasIssue_32 rfl (fun hq9 => ?_) (fun hq9 => ?_)
    · rw [if_neg hq9] at h
      refine v_iconst F dX0_hasIssue_55 ⟨by decide, by decide⟩ ?_
      exact fX0_hasIssue_56_ok F hX hp x3p h K
    · rw [if_pos hq9] at h
      refine v_aload F dX0_hasIssue_35 rfl ?_
      refine gf_X0_442 F dX0_hasIssue_37 x3p ?_
      refine v_bipush F dX0_hasIssue_40 rfl ⟨by decide, by decide⟩ ?_
      refine v_icmp_ne F dX0_hasIssue_42 rfl (fun hq16 => ?_) (fun hq16 => ?_)
      · rw [if_neg hq16] at h
        refine v_iconst F dX0_hasIssue_55 ⟨by decide, by decide⟩ ?_
        exact fX0_hasIssue_56_ok F hX hp x3p h K
      · rw [if_pos hq16] at h
        refine v_iload F dX0_hasIssue_45 rfl ?_
        refine v_iconst F dX0_hasIssue_47 ⟨by decide, by decide⟩ ?_
        refine v_icmp_eq F dX0_hasIssue_48 rfl (fun hq17 => ?_) (fun hq17 => ?_)
        · rw [if_pos hq17] at h
          refine v_iconst F dX0_hasIssue_55 ⟨by decide, by decide⟩ ?_
          exact fX0_hasIssue_56_ok F hX hp x3p h K
        · rw [if_neg hq17] at h
          refine v_iconst F dX0_hasIssue_51 ⟨by decide, by decide⟩ ?_
          refine v_goto F dX0_hasIssue_52 rfl ?_
          exact fX0_hasIssue_56_ok F hX hp x3p h K
theorem fX0_hasIssue_2_ok {w : Wd} {l : Launch} {G : Cx} {d m dd : Dt} {a1 a2 v3 : Int} {r : Int} {x : Int} (F : Fx w G cX0_hasIssue RX0 7 (some .boolean) { frames := 1, cells := 0, slots := 0, locals := 23 }) (hX : WF dd m) (hp : PB m 1 0) (h : fX0_hasIssue_2 d a1 a2 v3 = some x) (K : (fun q => q = r) x) : V w l WF G (QM w G WF (some (mI r)) d m 0 0) d m 0 0 2 [mA 1, mI a1, mI a2, mI v3, mU, mU, mU] [] := by
  unfold fX0_hasIssue_2 at h
  exact loop_ok (P := fX0_hasIssue_2P w l G (QM w G WF (some (mI r)) d m 0 0) m d a1 a2) (fun s x hx h1 h2 => fX0_hasIssue_2f_ok F hX hp hx (by
    cases x with
    | inl s' => exact h1 s' rfl
    | inr z => cases h2 z rfl; exact K)) h
theorem vm_X0_hasIssue {w : Wd} {l : Launch} {d m : Dt} {a1 a2 : Int} {r : Int} (hp : PB m 1 0) (h : fX0_hasIssue d a1 a2 = some r) : VM w l WF yX0_hasIssue cX0_hasIssue 7 (some .boolean) 1 23 0 0 d m [mA 1, mI a1, mI a2] (some (mI r)) d m := by
  obtain ⟨x, h, K⟩ : ∃ x, fX0_hasIssue d a1 a2 = some x ∧ x = r := ⟨_, h, rfl⟩
  refine VM.of (L := [mA 1, mI a1, mI a2, mU, mU, mU, mU]) (by decide +kernel) rfl (Nat.le_of_ble_eq_true rfl) fun G F _ => v_fact fun _ hX _ _ => ?_
  unfold fX0_hasIssue at h
  refine v_iconst F dX0_hasIssue_0 ⟨by decide, by decide⟩ ?_
  refine v_istore_n F dX0_hasIssue_1 rfl (Nat.le_of_ble_eq_true rfl) (L' := [mA 1, mI a1, mI a2, mI 0, mU, mU, mU]) rfl ?_
  exact fX0_hasIssue_2_ok F hX hp h K
theorem vm_X15_init {w : Wd} {l : Launch} {d m : Dt} {o a1 a2 a3 a4 a5 : Int} (hm : m 0 0 = o + 1) (obm : OB m o 14) (um : m o 3 = 0) : VM w l WF yX15_init cX15_init 6 none 1 20 1 54 d m [mA o, mI a1, mI a2, mI a3, mI a4, mI a5] none (nwX15 o a1 a2 a3 a4 a5 d) (na_X15 m) := by
  have ho := obm.1
  refine VM.of (L := [mA o, mI a1, mI a2, mI a3, mI a4, mI a5]) (by decide +kernel) rfl (Nat.le_of_ble_eq_true rfl) fun G F hnm => ?_
  refine v_aload_n F dX15_init_0 rfl rfl ?_
  refine v_objI F obm.1 dX15_init_1 q1859 q315 q316 (Nat.le_of_ble_eq_true rfl) (Nat.le_of_ble_eq_true rfl) (Nat.le_of_ble_eq_true rfl) ?_
  refine v_aload_n F dX15_init_4 rfl rfl ?_
  refine v_bipush F dX15_init_5 rfl ⟨by decide, by decide⟩ ?_
  refine v_newp (t := 102) (ty := .byte) F dX15_init_7 rfl rfl ⟨by decide, by decide⟩ rfl (fun _ _ => rfl) rfl q347 ⟨by decide, by decide⟩ (by decide) (Nat.le_of_ble_eq_true rfl) (ks' := 54) rfl (Nat.le_of_ble_eq_true rfl) hm ?_
  obtain ⟨m1, em1⟩ : ∃ z, z = alp m ((102 : Nat) : Int) 54 := ⟨_, rfl⟩
  refine v_nM em1 ?_
  have hm1 : m1 0 0 = o + 2 := by rw [em1]; exact alp_nx hm (by omega) (by omega)
  have obm1 : OB m1 o 14 := by rw [em1]; exact alp_ob obm (by omega)
  have um1 : m1 o 3 = 0 := by rw [em1, alp_old (by omega) (by omega)]; exact um
  have pm1 : m1 (o + 1) 3 = 102 := by rw [em1]; exact alp_3 hm
  refine wpA F fz_X15_9 (fun _ => hnm) dX15_init_9 obm1 (Nat.le_of_ble_eq_true rfl) um1 rfl rfl pm1 ?_
  obtain ⟨d1, ed1⟩ : ∃ z, z = st d o 7 (o + 1) := ⟨_, rfl⟩
  refine v_nD ed1 ?_
  refine v_aload_n F dX15_init_12 rfl rfl ?_
  refine v_iload_n F dX15_init_13 rfl rfl ?_
  refine wpI F fz_X15_15 (fun _ => hnm) dX15_init_14 obm1 (Nat.le_of_ble_eq_true rfl) um1 rfl rfl ?_
  obtain ⟨d2, ed2⟩ : ∃ z, z = st d1 o 0 a1 := ⟨_, rfl⟩
  refine v_nD ed2 ?_
  refine v_aload_n F dX15_init_17 rfl rfl ?_
  refine v_iload_n F dX15_init_18 rfl rfl ?_
  refine wpI F fz_X15_19 (fun _ => hnm) dX15_init_19 obm1 (Nat.le_of_ble_eq_true rfl) um1 rfl rfl ?_
  obtain ⟨d3, ed3⟩ : ∃ z, z = st d2 o 1 a2 := ⟨_, rfl⟩
  refine v_nD ed3 ?_
  refine v_aload_n F dX15_init_22 rfl rfl ?_
  refine v_iload_n F dX15_init_23 rfl rfl ?_
  refine wpI F fz_X15_22 (fun _ => hnm) dX15_init_24 obm1 (Nat.le_of_ble_eq_true rfl) um1 rfl rfl ?_
  obtain ⟨d4, ed4⟩ : ∃ z, z = st d3 o 2 a3 := ⟨_, rfl⟩
  refine v_nD ed4 ?_
  refine v_aload_n F dX15_init_27 rfl rfl ?_
  refine v_iload F dX15_init_28 rfl ?_
  refine wpI F fz_X15_25 (fun _ => hnm) dX15_init_30 obm1 (Nat.le_of_ble_eq_true rfl) um1 rfl rfl ?_
  obtain ⟨d5, ed5⟩ : ∃ z, z = st d4 o 4 a5 := ⟨_, rfl⟩
  refine v_nD ed5 ?_
  refine v_aload_n F dX15_init_33 rfl rfl ?_
  refine v_iload_n F dX15_init_34 rfl rfl ?_
  refine v_iload F dX15_init_35 rfl ?_
  refine v_iadd F dX15_init_37 ?_
  refine wpI F fz_X15_28 (fun _ => hnm) dX15_init_38 obm1 (Nat.le_of_ble_eq_true rfl) um1 rfl rfl ?_
  obtain ⟨d6, ed6⟩ : ∃ z, z = st d5 o 3 (w32 (a1 + a4)) := ⟨_, rfl⟩
  refine v_nD ed6 ?_
  have ed : d6 = nwX15 o a1 a2 a3 a4 a5 d := by rw [ed6, ed5, ed4, ed3, ed2, ed1]; rfl
  have em : m1 = na_X15 m := by rw [em1]; rfl
  rw [← ed, ← em]
  exact v_vret F dX15_init_41
theorem vm_X0_give {w : Wd} {l : Launch} {d m : Dt} {a1 a2 a3 a4 : Int} {d' m' : Dt} {r : Int} (hp : PB m 1 0) (h : fX0_give d m a1 a2 a3 a4 = some (d', m', r)) : VM w l WF yX0_give cX0_give 6 (some .int) 2 45 2 62 d m [mA 1, mI a1, mI a2, mI a3, mI a4] (some (mI r)) d' m' := by
  obtain ⟨x, h, K⟩ : ∃ x, fX0_give d m a1 a2 a3 a4 = some x ∧ x = (d', m', r) := ⟨_, h, rfl⟩
  refine VM.of (L := [mA 1, mI a1, mI a2, mI a3, mI a4, mU]) (by decide +kernel) rfl (Nat.le_of_ble_eq_true rfl) fun G F _ => v_fact fun _ hX _ _ => ?_
  unfold fX0_give at h
  obtain ⟨o1, eo1, h⟩ := lv_some h
  refine v_fact fun hv _ _ _ => ?_
  have hb := hv.1
  have hp0 := hp
  refine v_new (c := 14) (n := 8) F dX0_give_0 rfl (Nat.le_of_ble_eq_true rfl) rfl ok_X15 q704 q1855 q308 in_X15 tyX15_ok (fun hv hX => hX.grow hv) (Nat.le_of_ble_eq_true rfl) (Nat.le_of_ble_eq_true rfl) (a := o1) eo1.symm ?_
  obtain ⟨m1, em1⟩ : ∃ z, z = aln m ((14 : Nat) + 1 : Int) 0 := ⟨_, rfl⟩
  refine v_nM em1 ?_
  have hm1 : m1 0 0 = o1 + 1 := by rw [em1, aln_next hb, eo1]
  have ob1 : OB m1 o1 14 := ⟨by omega, by rw [em1, eo1]; exact aln_1⟩
  have u1 : m1 o1 3 = 0 := by rw [em1, eo1]; exact aln_3
  have hp : PB m1 1 0 := by rw [em1]; exact hp.alx hv
  refine v_fact fun _ hX _ _ => ?_
  refine v_dup_A F dX0_give_3 ?_
  refine v_aload_n F dX0_give_4 rfl rfl ?_
  refine gf_X0_277 F dX0_give_5 hp ?_
  refine v_iload_n F dX0_give_8 rfl rfl ?_
  refine v_iload_n F dX0_give_9 rfl rfl ?_
  refine v_iload_n F dX0_give_10 rfl rfl ?_
  refine v_aload_n F dX0_give_11 rfl rfl ?_
  refine gf_X0_79 F dX0_give_12 hp (v := 61) rfl ?_
  refine v_aload_n F dX0_give_15 rfl rfl ?_
  refine gf_X0_86 F dX0_give_16 hp (v := 63) rfl ?_
  refine v_iload_n F dX0_give_19 rfl rfl ?_
  obtain ⟨hi2, h⟩ := ck_some h
  refine v_iald F dX0_give_20 (ar_X0_22 hX hp) hi2 ?_
  obtain ⟨x3, ex3, h⟩ := lv_some h
  refine v_nI ex3 ?_
  obtain ⟨hi4, h⟩ := ck_some h
  refine v_iald F dX0_give_21 (ar_X0_19 hX hp) hi4 ?_
  obtain ⟨d5, ed5, h⟩ := lm_some h
  obtain ⟨m6, em6, h⟩ := lm_some h
  have hi := (ns_X15 hm1 ob1.1).1
  refine v_initO (c := 14) F dX0_give_22 cn_X0_487 rfl ob1.1 (vm_X15_init hm1 ob1 u1) rfl (rOk.of rfl) (hi.ob ob1) (Nat.le_of_ble_eq_true rfl) (hi.u u1) hi.lt (own_X15 hm1 ob1.1) ?_
  refine v_nD ed5 ?_
  refine v_nM (show m6 = _ by rw [em6, em1, eo1]; rfl) ?_
  have obp : PB m6 o1 14 := by rw [em6, eo1]; exact st_eq _ _ _ _
  have hp : PB m6 1 0 := by rw [em6]; exact pb_X15 hv hp0
  refine v_fact fun _ hX _ _ => ?_
  refine v_astore F dX0_give_25 (Nat.le_of_ble_eq_true rfl) (L' := [mA 1, mI a1, mI a2, mI a3, mI a4, mA o1]) rfl ?_
  refine v_aload F dX0_give_27 rfl ?_
  refine v_iload F dX0_give_29 rfl ?_
  obtain ⟨hb7, h⟩ := ck_some h
  obtain ⟨d8, ed8, h⟩ := sd_some h
  refine pf_X0_446 F dX0_give_31 obp hb7 ?_
  refine v_nD ed8 ?_
  refine v_aload_n F dX0_give_34 rfl rfl ?_
  refine gf_X0_111 F dX0_give_35 hp (v := 76) rfl ?_
  refine v_aload_n F dX0_give_38 rfl rfl ?_
  refine gf_X0_277 F dX0_give_39 hp ?_
  refine v_aload F dX0_give_42 rfl ?_
  obtain ⟨x9, ex9, h⟩ := lv_some h
  refine v_n2 ex9 ?_
  obtain ⟨hi10, h⟩ := ck_some h
  obtain ⟨d11, ed11, h⟩ := sd_some h
  refine v_aast (t := 112) (c := 14) F dX0_give_44 (ar_X0_31 hX hp) (Nat.le_of_ble_eq_true rfl) rfl rfl rfl rfl rfl obp (Nat.le_of_ble_eq_true rfl) hi10 ?_
  refine v_nD ed11 ?_
  refine v_aload_n F dX0_give_45 rfl rfl ?_
  refine v_dup_A F dX0_give_46 ?_
  refine gf_X0_277 F dX0_give_47 hp ?_
  refine v_iconst F dX0_give_50 ⟨by decide, by decide⟩ ?_
  refine v_iadd F dX0_give_51 ?_
  obtain ⟨d12, ed12, h⟩ := sd_some h
  refine pf_X0_277 F dX0_give_52 hp ?_
  refine v_nD ed12 ?_
  refine v_aload_n F dX0_give_55 rfl rfl ?_
  refine gf_X0_277 F dX0_give_56 hp ?_
  refine v_iconst F dX0_give_59 ⟨by decide, by decide⟩ ?_
  refine v_isub F dX0_give_60 ?_
  cases h
  cases (show _ = (d', m', r) from K)
  exact v_iret F dX0_give_61
def fX0_checkIn_75P (w : Wd) (l : Launch) (G : Cx) (Q : State → Prop) (m : Dt) (a1 a2 : Int) (s : Dt × Int) : Prop := V w l WF G Q s.1 m 0 0 75 [mA 1, mI a1, mI a2, mI (s.2), mU] []
theorem fX0_checkIn_172_ok {w : Wd} {l : Launch} {G : Cx} {d m dd : Dt} {a1 a2 s1 s2 s3 s4 : Int} {d' m' : Dt} {r : Int} {x : (Dt × Dt × Int)} (F : Fx w G cX0_checkIn RX0 5 (some .int) { frames := 4, cells := 2, slots := 62, locals := 115 }) (hX : WF dd m) (hp : PB m 1 0) (h : fX0_checkIn_172 d m a1 a2 s1 s2 s3 s4 = some x) (K : (fun q => q = (d', m', r)) x) : V w l WF G (QM w G WF (some (mI r)) d' m' 2 62) d m 0 0 172 [mU, mU, mU, mU, mU] [mI s4, mI s3, mI s2, mI s1, mA 1] := by
  unfold fX0_checkIn_172 at h
  obtain ⟨d20, m21, x23, hc22, h⟩ := b3_some h
  refine v_callV (c := 0) F dX0_checkIn_172 cv_X0_498 rfl (PB.ob hp hX (Nat.le_of_ble_eq_true rfl)) (Nat.le_of_ble_eq_true rfl) rfl (vm_X0_give hp hc22) rfl (rOk.of rfl) ?_
  cases h
  cases (show _ = (d', m', r) from K)
  exact v_iret F dX0_checkIn_175
theorem fX0_checkIn_139_ok {w : Wd} {l : Launch} {G : Cx} {d m dd : Dt} {a1 a2 : Int} {d' m' : Dt} {r : Int} {x : (Dt × Dt × Int)} (F : Fx w G cX0_checkIn RX0 5 (some .int) { frames := 4, cells := 2, slots := 62, locals := 115 }) (hX : WF dd m) (hp : PB m 1 0) (h : fX0_checkIn_139 d m a1 a2 = some x) (K : (fun q => q = (d', m', r)) x) : V w l WF G (QM w G WF (some (mI r)) d' m' 2 62) d m 0 0 139 [mA 1, mI a1, mI a2, mU, mU] [] := by
  unfold fX0_checkIn_139 at h
  refine v_aload_n F dX0_checkIn_139 rfl rfl ?_
  refine v_bipush F dX0_checkIn_140 rfl ⟨by decide, by decide⟩ ?_
  refine v_iload_n F dX0_checkIn_142 rfl rfl ?_
  refine v_iload_n F dX0_checkIn_143 rfl rfl ?_
  refine v_iconst F dX0_checkIn_144 ⟨by decide, by decide⟩ ?_
  refine v_iconst F dX0_checkIn_145 ⟨by decide, by decide⟩ ?_
  obtain ⟨d16, hc17, h⟩ := bd_some h
  refine v_callV0 (c := 0) F dX0_checkIn_146 cv_X0_173 rfl (PB.ob hp hX (Nat.le_of_ble_eq_true rfl)) (Nat.le_of_ble_eq_true rfl) rfl (vm_X0_write hp hc17) rfl (rOk.of rfl) ?_
  refine v_aload_n F dX0_checkIn_149 rfl rfl ?_
  refine v_iload_n F dX0_checkIn_150 rfl rfl ?_
  refine v_iload_n F dX0_checkIn_151 rfl rfl ?_
  refine v_aload_n F dX0_checkIn_152 rfl rfl ?_
  refine gf_X0_98 F dX0_checkIn_153 hp (v := 67) rfl ?_
  refine v_iload_n F dX0_checkIn_156 rfl rfl ?_
  obtain ⟨hi18, h⟩ := ck_some h
  refine v_iald F dX0_checkIn_157 (ar_X0_27 hX hp) hi18 ?_
  refine v_aload_n F dX0_checkIn_158 rfl rfl ?_
  refine gf_X0_101 F dX0_checkIn_159 hp (v := 68) rfl ?_
  refine v_iload_n F dX0_checkIn_162 rfl rfl ?_
  refine v_zald F dX0_checkIn_163 (ar_X0_28 hX hp) hi18 ?_
  refine v_if_ne F dX0_checkIn_164 rfl (fun hq19 => ?_) (fun hq19 => ?_)
  · rw [if_neg hq19] at h
    refine v_iconst F dX0_checkIn_171 ⟨by decide, by decide⟩ ?_
    refine v_fgt (L' := [mU, mU, mU, mU, mU]) ⟨Or.inr rfl, Or.inr rfl, Or.inr rfl, Or.inl rfl, Or.inl rfl, trivial⟩ ?_
    exact fX0_checkIn_172_ok F hX hp h K
  · rw [if_pos hq19] at h
    refine v_iconst F dX0_checkIn_167 ⟨by decide, by decide⟩ ?_
    refine v_goto F dX0_checkIn_168 rfl ?_
    refine v_fgt (L' := [mU, mU, mU, mU, mU]) ⟨Or.inr rfl, Or.inr rfl, Or.inr rfl, Or.inl rfl, Or.inl rfl, trivial⟩ ?_
    exact fX0_checkIn_172_ok F hX hp h K
theorem fX0_checkIn_75f_ok {w : Wd} {l : Launch} {G : Cx} {m dd : Dt} {a1 a2 : Int} {d' m' : Dt} {r : Int} {s : Dt × Int} {x : ((Dt × Int) ⊕ (Dt × Dt × Int))} (F : Fx w G cX0_checkIn RX0 5 (some .int) { frames := 4, cells := 2, slots := 62, locals := 115 }) (hX : WF dd m) (hp : PB m 1 0) (h : fX0_checkIn_75f m a1 a2 s = some x) (K : (Sum.elim (fX0_checkIn_75P w l G (QM w G WF (some (mI r)) d' m' 2 62) m a1 a2) (fun q => q = (d', m', r))) x) : V w l WF G (QM w G WF (some (mI r)) d' m' 2 62) s.1 m 0 0 75 [mA 1, mI a1, mI a2, mI (s.2), mU] [] := by
  obtain ⟨d, v3⟩ := s
  unfold fX0_checkIn_75f at h
  dsimp only at h
  refine v_iload_n F dX0_checkIn_75 rfl rfl ?_
  refine v_aload_n F dX0_checkIn_76 rfl rfl ?_
  refine gf_X0_277 F dX0_checkIn_77 hp ?_
  refine v_icmp_ge F dX0_checkIn_80 rfl (fun hq15 => ?_) (fun hq15 => ?_)
  · rw [if_pos hq15] at h
    obtain ⟨z, hu, ez⟩ := up_some h
    clear h
    subst ez
    have h := hu
    clear hu
    refine v_fgt (L' := [mA 1, mI a1, mI a2, mU, mU]) ⟨Or.inl rfl, Or.inl rfl, Or.inl rfl, Or.inr rfl, Or.inl rfl, trivial⟩ ?_
    exact fX0_checkIn_139_ok F hX hp h K
  · rw [if_neg hq15] at h
    refine v_aload_n F dX0_checkIn_83 rfl rfl ?_
    refine gf_X0_101 F dX0_checkIn_84 hp (v := 68) rfl ?_
    refine v_iload_n F dX0_checkIn_87 rfl rfl ?_
    obtain ⟨hi24, h⟩ := ck_some h
    refine v_zald F dX0_checkIn_88 (ar_X0_28 hX hp) hi24 ?_
    refine v_if_ne F dX0_checkIn_89 rfl (fun hq25 => ?_) (fun hq25 => ?_)
    · rw [if_neg hq25] at h
      obtain ⟨z, hu, ez⟩ := up_some h
      clear h
      subst ez
      have h := hu
      clear hu
      refine v_fgt (L' := [mA 1, mI a1, mI a2, mU, mU]) ⟨Or.inl rfl, Or.inl rfl, Or.inl rfl, Or.inr rfl, Or.inl rfl, trivial⟩ ?_
      exact fX0_checkIn_139_ok F hX hp h K
    · rw [if_pos hq25] at h
      refine v_aload_n F dX0_checkIn_92 rfl rfl ?_
      refine gf_X0_111 F dX0_checkIn_93 hp (v := 76) rfl ?_
      refine v_iload_n F dX0_checkIn_96 rfl rfl ?_
      obtain ⟨hi26, h⟩ := ck_some h
      obtain ⟨x27, ex27, h⟩ := lv_some h
      obtain ⟨hn29, h⟩ := ck_some h
      refine v_aaldN (t := 112) (c := 14) F dX0_checkIn_97 (ar_X0_31 hX hp) (Nat.le_of_ble_eq_true rfl) rfl rfl rfl rfl rfl hi26 ex27 fun hr28 => ?_
      have x27p := hr28.resolve_left hn29
      refine v_astore F dX0_checkIn_98 (Nat.le_of_ble_eq_true rfl) (L' := [mA 1, mI a1, mI a2, mI v3, mA x27]) rfl ?_
      refine v_aload F dX0_checkIn_100 rfl ?_
      refine gf_X0_449 F dX0_checkIn_102 x27p ?_
      refine v_iload_n F dX0_checkIn_105 rfl rfl ?_
      refine v_icmp_ne F dX0_checkIn_106 rfl (fun hq30 => ?_) (fun hq30 => ?_)
      · rw [if_neg hq30] at h
        obtain ⟨x31, ex31, h⟩ := lv_some h
        refine v_iincN F dX0_checkIn_133 (Nat.le_of_ble_eq_true rfl) rfl ex31 (L' := [mA 1, mI a1, mI a2, mI x31, mA x27]) rfl ?_
        refine v_goto F dX0_checkIn_136 rfl ?_
        cases h
        refine v_fgt (L' := [mA 1, mI a1, mI a2, mI x31, mU]) ⟨Or.inl rfl, Or.inl rfl, Or.inl rfl, Or.inl rfl, Or.inr rfl, trivial⟩ ?_
        exact K
      · rw [if_pos hq30] at h
        refine v_aload F dX0_checkIn_109 rfl ?_
        refine gf_X0_442 F dX0_checkIn_111 x27p ?_
        refine v_bipush F dX0_checkIn_114 rfl ⟨by decide, by decide⟩ ?_
        refine v_icmp_ne F dX0_checkIn_116 rfl (fun hq32 => ?_) (fun hq32 => ?_)
        · rw [if_neg hq32] at h
          obtain ⟨x33, ex33, h⟩ := lv_some h
          refine v_iincN F dX0_checkIn_133 (Nat.le_of_ble_eq_true rfl) rfl ex33 (L' := [mA 1, mI a1, mI a2, mI x33, mA x27]) rfl ?_
          refine v_goto F dX0_checkIn_136 rfl ?_
          cases h
          refine v_fgt (L' := [mA 1, mI a1, mI a2, mI x33, mU]) ⟨Or.inl rfl, Or.inl rfl, Or.inl rfl, Or.inl rfl, Or.inr rfl, trivial⟩ ?_
          exact K
        · rw [if_pos hq32] at h
          refine v_aload F dX0_checkIn_119 rfl ?_
          refine v_callVv (c := 14) F dX0_checkIn_121 cv_X0_450 rfl (PB.ob x27p hX (Nat.le_of_ble_eq_true rfl)) (Nat.le_of_ble_eq_true rfl) rfl (vm_X15_lives x27p) rfl (rOk.of rfl) ?_
          refine v_if_eq F dX0_checkIn_124 rfl (fun hq34 => ?_) (fun hq34 => ?_)
          · rw [if_pos hq34] at h
            obtain ⟨x35, ex35, h⟩ := lv_some h
            refine v_iincN F dX0_checkIn_133 (Nat.le_of_ble_eq_true rfl) rfl ex35 (L' := [mA 1, mI a1, mI a2, mI x35, mA x27]) rfl ?_
            refine v_goto F dX0_checkIn_136 rfl ?_
            cases h
            refine v_fgt (L' := [mA 1, mI a1, mI a2, mI x35, mU]) ⟨Or.inl rfl, Or.inl rfl, Or.inl rfl, Or.inl rfl, Or.inr rfl, trivial⟩ ?_
            exact K
          · rw [if_neg hq34] at h
            refine v_aload F dX0_checkIn_127 rfl ?_
            refine v_iconst F dX0_checkIn_129 ⟨by decide, by decide⟩ ?_
            obtain ⟨d36, ed36, h⟩ := sd_some h
            refine pf_X0_445 F dX0_checkIn_130 x27p ?_
            refine v_nD ed36 ?_
            obtain ⟨x37, ex37, h⟩ := lv_some h
            refine v_iincN F dX0_checkIn_133 (Nat.le_of_ble_eq_true rfl) rfl ex37 (L' := [mA 1, mI a1, mI a2, mI x37, mA x27]) rfl ?_
            refine v_goto F dX0_checkIn_136 rfl ?_
            cases h
            refine v_fgt (L' := [mA 1, mI a1, mI a2, mI x37, mU]) ⟨Or.inl rfl, Or.inl rfl, Or.inl rfl, Or.inl rfl, Or.inr rfl, trivial⟩ ?_
            exact K
theorem fX0_checkIn_75_ok {w : Wd} {l : Launch} {G : Cx} {d m dd : Dt} {a1 a2 v3 : Int} {d' m' : Dt} {r : Int} {x : (Dt × Dt × Int)} (F : Fx w G cX0_checkIn RX0 5 (some .int) { frames := 4, cells := 2, slots := 62, locals := 115 }) (hX : WF dd m) (hp : PB m 1 0) (h : fX0_checkIn_75 d m a1 a2 v3 = some x) (K : (fun q => q = (d', m', r)) x) : V w l WF G (QM w G WF (some (mI r)) d' m' 2 62) d m 0 0 75 [mA 1, mI a1, mI a2, mI v3, mU] [] := by
  unfold fX0_checkIn_75 at h
  exact loop_ok (P := fX0_checkIn_75P w l G (QM w G WF (some (mI r)) d' m' 2 62) m a1 a2) (fun s x hx h1 h2 => fX0_checkIn_75f_ok F hX hp hx (by
    cases x with
    | inl s' => exact h1 s' rfl
    | inr z => cases h2 z rfl; exact K)) h
theorem vm_X0_checkIn {w : Wd} {l : Launch} {d m : Dt} {a1 a2 : Int} {d' m' : Dt} {r : Int} (hp : PB m 1 0) (h : fX0_checkIn d m a1 a2 = some (d', m', r)) : VM w l WF yX0_checkIn cX0_checkIn 5 (some .int) 4 115 2 62 d m [mA 1, mI a1, mI a2] (some (mI r)) d' m' := by
  obtain ⟨x, h, K⟩ : ∃ x, fX0_checkIn d m a1 a2 = some x ∧ x = (d', m', r) := ⟨_, h, rfl⟩
  refine VM.of (L := [mA 1, mI a1, mI a2, mU, mU]) (by decide +kernel) rfl (Nat.le_of_ble_eq_true rfl) fun G F _ => v_fact fun _ hX _ _ => ?_
  unfold fX0_checkIn at h
  refine v_aload_n F dX0_checkIn_0 rfl rfl ?_
  refine v_iload_n F dX0_checkIn_1 rfl rfl ?_
  refine v_callVv (c := 0) F dX0_checkIn_2 cv_X0_430 rfl (PB.ob hp hX (Nat.le_of_ble_eq_true rfl)) (Nat.le_of_ble_eq_true rfl) rfl (vm_X0_isStation hp) rfl (rOk.of rfl) ?_
  refine v_if_eq F dX0_checkIn_5 rfl (fun hq1 => ?_) (fun hq1 => ?_)
  · rw [if_pos hq1] at h
    refine v_iconst F dX0_checkIn_16 ⟨by decide, by decide⟩ ?_
    cases h
    cases (show _ = (d', m', r) from K)
    refine v_widen (mc := 2) (ms := 62) (Nat.zero_le _) (Nat.zero_le _) ?_
    exact v_iret F dX0_checkIn_17
  · rw [if_neg hq1] at h
    refine v_aload_n F dX0_checkIn_8 rfl rfl ?_
    refine v_iload_n F dX0_checkIn_9 rfl rfl ?_
    refine v_callVv (c := 0) F dX0_checkIn_10 cv_X0_210 rfl (PB.ob hp hX (Nat.le_of_ble_eq_true rfl)) (Nat.le_of_ble_eq_true rfl) rfl (vm_X0_isPerson hp) rfl (rOk.of rfl) ?_
    refine v_if_ne F dX0_checkIn_13 rfl (fun hq2 => ?_) (fun hq2 => ?_)
    · rw [if_neg hq2] at h
      refine v_aload_n F dX0_checkIn_18 rfl rfl ?_
      obtain ⟨x3, hc4, h⟩ := b1_some h
      refine v_callVv (c := 0) F dX0_checkIn_19 cv_X0_489 rfl (PB.ob hp hX (Nat.le_of_ble_eq_true rfl)) (Nat.le_of_ble_eq_true rfl) rfl (vm_X0_isVoting hp hc4) rfl (rOk.of rfl) ?_
      refine v_if_eq F dX0_checkIn_22 rfl (fun hq5 => ?_) (fun hq5 => ?_)
      · rw [if_pos hq5] at h
        refine v_bipush F dX0_checkIn_37 rfl ⟨by decide, by decide⟩ ?_
        cases h
        cases (show _ = (d', m', r) from K)
        refine v_widen (mc := 2) (ms := 62) (Nat.zero_le _) (Nat.zero_le _) ?_
        exact v_iret F dX0_checkIn_39
      · rw [if_neg hq5] at h
        refine v_aload_n F dX0_checkIn_25 rfl rfl ?_
        refine gf_X0_120 F dX0_checkIn_26 hp (v := 78) rfl ?_
        refine v_iload_n F dX0_checkIn_29 rfl rfl ?_
        obtain ⟨hi6, h⟩ := ck_some h
        refine v_aaldF (c := 0) (k := 34) F dX0_checkIn_30 hp (Nat.le_of_ble_eq_true rfl) (Nat.le_of_ble_eq_true rfl) (by decide) (by decide) rfl (ar_X0_34 hX hp) (Nat.le_of_ble_eq_true rfl) rfl rfl rfl rfl hi6 (v := (677 + 124 * a1)) (by show 1 + 676 + 124 * a1 = _; omega) ?_
        refine gf_X0_436 F dX0_checkIn_31 (ae_X0_34 (i := a1) hX hp hi6 (v := (677 + 124 * a1)) (by omega)) ?_
        refine v_if_eq F dX0_checkIn_34 rfl (fun hq7 => ?_) (fun hq7 => ?_)
        · rw [if_pos hq7] at h
          refine v_aload_n F dX0_checkIn_40 rfl rfl ?_
          refine v_iload_n F dX0_checkIn_41 rfl rfl ?_
          obtain ⟨x8, hc9, h⟩ := b1_some h
          refine v_callVv (c := 0) F dX0_checkIn_42 cv_X0_492 rfl (PB.ob hp hX (Nat.le_of_ble_eq_true rfl)) (Nat.le_of_ble_eq_true rfl) rfl (vm_X0_isOnRoll hp hc9) rfl (rOk.of rfl) ?_
          refine v_if_eq F dX0_checkIn_45 rfl (fun hq10 => ?_) (fun hq10 => ?_)
          · rw [if_pos hq10] at h
            refine v_bipush F dX0_checkIn_57 rfl ⟨by decide, by decide⟩ ?_
            cases h
            cases (show _ = (d', m', r) from K)
            refine v_widen (mc := 2) (ms := 62) (Nat.zero_le _) (Nat.zero_le _) ?_
            exact v_iret F dX0_checkIn_59
          · rw [if_neg hq10] at h
            refine v_aload_n F dX0_checkIn_48 rfl rfl ?_
            refine v_iload_n F dX0_checkIn_49 rfl rfl ?_
            refine v_iload_n F dX0_checkIn_50 rfl rfl ?_
            obtain ⟨x11, hc12, h⟩ := b1_some h
            refine v_callVv (c := 0) F dX0_checkIn_51 cv_X0_495 rfl (PB.ob hp hX (Nat.le_of_ble_eq_true rfl)) (Nat.le_of_ble_eq_true rfl) rfl (vm_X0_hasIssue hp hc12) rfl (rOk.of rfl) ?_
            refine v_if_eq F dX0_checkIn_54 rfl (fun hq13 => ?_) (fun hq13 => ?_)
            · rw [if_pos hq13] at h
              refine v_aload_n F dX0_checkIn_60 rfl rfl ?_
              refine gf_X0_277 F dX0_checkIn_61 hp ?_
              refine v_sipush F dX0_checkIn_64 rfl ⟨by decide, by decide⟩ ?_
              refine v_icmp_ne F dX0_checkIn_67 rfl (fun hq14 => ?_) (fun hq14 => ?_)
              · rw [if_neg hq14] at h
                refine v_iconst F dX0_checkIn_73 ⟨by decide, by decide⟩ ?_
                refine v_istore_n F dX0_checkIn_74 rfl (Nat.le_of_ble_eq_true rfl) (L' := [mA 1, mI a1, mI a2, mI 0, mU]) rfl ?_
                exact fX0_checkIn_75_ok F hX hp h K
              · rw [if_pos hq14] at h
                refine v_bipush F dX0_checkIn_70 rfl ⟨by decide, by decide⟩ ?_
                cases h
                cases (show _ = (d', m', r) from K)
                refine v_widen (mc := 2) (ms := 62) (Nat.zero_le _) (Nat.zero_le _) ?_
                exact v_iret F dX0_checkIn_72
            · rw [if_neg hq13] at h
              refine v_bipush F dX0_checkIn_57 rfl ⟨by decide, by decide⟩ ?_
              cases h
              cases (show _ = (d', m', r) from K)
              refine v_widen (mc := 2) (ms := 62) (Nat.zero_le _) (Nat.zero_le _) ?_
              exact v_iret F dX0_checkIn_59
        · rw [if_neg hq7] at h
          refine v_bipush F dX0_checkIn_37 rfl ⟨by decide, by decide⟩ ?_
          cases h
          cases (show _ = (d', m', r) from K)
          refine v_widen (mc := 2) (ms := 62) (Nat.zero_le _) (Nat.zero_le _) ?_
          exact v_iret F dX0_checkIn_39
    · rw [if_pos hq2] at h
      refine v_iconst F dX0_checkIn_16 ⟨by decide, by decide⟩ ?_
      cases h
      cases (show _ = (d', m', r) from K)
      refine v_widen (mc := 2) (ms := 62) (Nat.zero_le _) (Nat.zero_le _) ?_
      exact v_iret F dX0_checkIn_17
theorem vm_X11_isVoting {w : Wd} {l : Launch} {d m : Dt} {r : Int} (hp : PB m 1545 11) (h : fX11_isVoting d = some r) : VM w l WF yX11_isVoting cX11_isVoting 1 (some .boolean) 1 25 0 0 d m [mA 1545] (some (mI r)) d m := by
  obtain ⟨x, h, K⟩ : ∃ x, fX11_isVoting d = some x ∧ x = r := ⟨_, h, rfl⟩
  refine VM.of (L := [mA 1545]) (by decide +kernel) rfl (Nat.le_of_ble_eq_true rfl) fun G F _ => v_fact fun _ hX _ _ => ?_
  unfold fX11_isVoting at h
  refine v_aload_n F dX11_isVoting_0 rfl rfl ?_
  refine gf_X11_141 F dX11_isVoting_1 hp ?_
  refine v_if_eq F dX11_isVoting_4 rfl (fun hq1 => ?_) (fun hq1 => ?_)
  · rw [if_pos hq1] at h
    refine v_iconst F dX11_isVoting_41 ⟨by decide, by decide⟩ ?_
    cases h
    cases (show _ = r from K)
    exact v_zret F (Or.inl rfl) dX11_isVoting_42
  · rw [if_neg hq1] at h
    refine v_aload_n F dX11_isVoting_7 rfl rfl ?_
    refine gf_X11_531 F dX11_isVoting_8 hp ?_
    refine v_if_eq F dX11_isVoting_11 rfl (fun hq2 => ?_) (fun hq2 => ?_)
    · rw [if_pos hq2] at h
      refine v_iconst F dX11_isVoting_41 ⟨by decide, by decide⟩ ?_
      cases h
      cases (show _ = r from K)
      exact v_zret F (Or.inl rfl) dX11_isVoting_42
    · rw [if_neg hq2] at h
      refine v_aload_n F dX11_isVoting_14 rfl rfl ?_
      refine gf_X11_17 F dX11_isVoting_15 hp ?_
      refine v_i2l F dX11_isVoting_18 ?_
      refine v_aload_n F dX11_isVoting_19 rfl rfl ?_
      refine v_iconst F dX11_isVoting_20 ⟨by decide, by decide⟩ ?_
      obtain ⟨x3, hc4, h⟩ := b1_some h
      refine v_callVv (c := 11) F dX11_isVoting_21 cv_X11_466 rfl (PB.ob hp hX (Nat.le_of_ble_eq_true rfl)) (Nat.le_of_ble_eq_true rfl) rfl (vm_X11_lawIs hp hc4) rfl (rOk.of rfl) ?_
      refine v_i2l F dX11_isVoting_24 ?_
      refine v_aload_n F dX11_isVoting_25 rfl rfl ?_
      refine v_iconst F dX11_isVoting_26 ⟨by decide, by decide⟩ ?_
      obtain ⟨x5, hc6, h⟩ := b1_some h
      refine v_callVv (c := 11) F dX11_isVoting_27 cv_X11_466 rfl (PB.ob hp hX (Nat.le_of_ble_eq_true rfl)) (Nat.le_of_ble_eq_true rfl) rfl (vm_X11_lawIs hp hc6) rfl (rOk.of rfl) ?_
      refine v_i2l F dX11_isVoting_30 ?_
      refine v_callSv F dX11_isVoting_31 cs_X11_13 rfl (vm_X11_in) rfl (rOk.of rfl) ?_
      refine v_if_eq F dX11_isVoting_34 rfl (fun hq7 => ?_) (fun hq7 => ?_)
      · rw [if_pos hq7] at h
        refine v_iconst F dX11_isVoting_41 ⟨by decide, by decide⟩ ?_
        cases h
        cases (show _ = r from K)
        exact v_zret F (Or.inl rfl) dX11_isVoting_42
      · rw [if_neg hq7] at h
        refine v_iconst F dX11_isVoting_37 ⟨by decide, by decide⟩ ?_
        refine v_goto F dX11_isVoting_38 rfl ?_
        cases h
        cases (show _ = r from K)
        exact v_zret F (Or.inr rfl) dX11_isVoting_42
theorem vm_X11_isOnRoll {w : Wd} {l : Launch} {d m : Dt} {a1 : Int} {r : Int} (hp : PB m 1545 11) (h : fX11_isOnRoll d a1 = some r) : VM w l WF yX11_isOnRoll cX11_isOnRoll 3 (some .boolean) 1 22 0 0 d m [mA 1545, mI a1] (some (mI r)) d m := by
  obtain ⟨x, h, K⟩ : ∃ x, fX11_isOnRoll d a1 = some x ∧ x = r := ⟨_, h, rfl⟩
  refine VM.of (L := [mA 1545, mI a1, mU]) (by decide +kernel) rfl (Nat.le_of_ble_eq_true rfl) fun G F _ => v_fact fun _ hX _ _ => ?_
  unfold fX11_isOnRoll at h
  refine v_aload_n F dX11_isOnRoll_0 rfl rfl ?_
  refine v_iload_n F dX11_isOnRoll_1 rfl rfl ?_
  obtain ⟨x1, hc2, h⟩ := b1_some h
  refine v_callVv (c := 11) F dX11_isOnRoll_2 cv_X11_632 rfl (PB.ob hp hX (Nat.le_of_ble_eq_true rfl)) (Nat.le_of_ble_eq_true rfl) rfl (vm_X11_rowOf hp hc2) rfl (rOk.of rfl) ?_
  refine v_istore_n F dX11_isOnRoll_5 rfl (Nat.le_of_ble_eq_true rfl) (L' := [mA 1545, mI a1, mI x1]) rfl ?_
  refine v_iload_n F dX11_isOnRoll_6 rfl rfl ?_
  refine v_if_lt F dX11_isOnRoll_7 rfl (fun hq3 => ?_) (fun hq3 => ?_)
  · rw [if_pos hq3] at h
    refine v_iconst F dX11_isOnRoll_23 ⟨by decide, by decide⟩ ?_
    cases h
    cases (show _ = r from K)
    exact v_zret F (Or.inl rfl) dX11_isOnRoll_24
  · rw [if_neg hq3] at h
    refine v_aload_n F dX11_isOnRoll_10 rfl rfl ?_
    refine gf_X11_605 F dX11_isOnRoll_11 hp (v := 1597) rfl ?_
    refine v_iload_n F dX11_isOnRoll_14 rfl rfl ?_
    obtain ⟨hi4, h⟩ := ck_some h
    refine v_zald F dX11_isOnRoll_15 (ar_X11_74 hX hp) hi4 ?_
    refine v_if_eq F dX11_isOnRoll_16 rfl (fun hq5 => ?_) (fun hq5 => ?_)
    · rw [if_pos hq5] at h
      refine v_iconst F dX11_isOnRoll_23 ⟨by decide, by decide⟩ ?_
      cases h
      cases (show _ = r from K)
      exact v_zret F (Or.inl rfl) dX11_isOnRoll_24
    · rw [if_neg hq5] at h
      refine v_iconst F dX11_isOnRoll_19 ⟨by decide, by decide⟩ ?_
      refine v_goto F dX11_isOnRoll_20 rfl ?_
      cases h
      cases (show _ = r from K)
      exact v_zret F (Or.inr rfl) dX11_isOnRoll_24
def fX11_give_94P (w : Wd) (l : Launch) (G : Cx) (Q : State → Prop) (m : Dt) (a1 a2 a3 v4 : Int) (s : Dt × Int) : Prop := V w l WF G Q s.1 m 0 0 94 [mA 1545, mU, mU, mU, mI v4, mI (s.2)] []
theorem fX11_give_94f_ok {w : Wd} {l : Launch} {G : Cx} {m dd : Dt} {a1 a2 a3 v4 : Int} {d' : Dt} {r : Int} {s : Dt × Int} {x : ((Dt × Int) ⊕ (Dt × Int))} (F : Fx w G cX11_give RX11 6 (some .int) { frames := 1, cells := 0, slots := 0, locals := 22 }) (hX : WF dd m) (hp : PB m 1545 11) (h : fX11_give_94f a1 a2 a3 v4 s = some x) (K : (Sum.elim (fX11_give_94P w l G (QM w G WF (some (mI r)) d' m 0 0) m a1 a2 a3 v4) (fun q => q = (d', r))) x) : V w l WF G (QM w G WF (some (mI r)) d' m 0 0) s.1 m 0 0 94 [mA 1545, mU, mU, mU, mI v4, mI (s.2)] [] := by
  obtain ⟨d, v5⟩ := s
  unfold fX11_give_94f at h
  dsimp only at h
  refine v_iload F dX11_give_94 rfl ?_
  refine v_bipush F dX11_give_96 rfl ⟨by decide, by decide⟩ ?_
  refine v_icmp_ge F dX11_give_98 rfl (fun hq17 => ?_) (fun hq17 => ?_)
  · rw [if_pos hq17] at h
    obtain ⟨z, hu, ez⟩ := up_some h
    clear h
    subst ez
    have h := hu
    clear hu
    refine v_iload F dX11_give_122 rfl ?_
    cases h
    cases (show _ = (d', r) from K)
    exact v_iret F dX11_give_124
  · rw [if_neg hq17] at h
    refine v_aload_n F dX11_give_101 rfl rfl ?_
    refine gf_X11_664 F dX11_give_102 hp (v := 1609) rfl ?_
    refine v_sipush F dX11_give_105 rfl ⟨by decide, by decide⟩ ?_
    refine v_iload F dX11_give_108 rfl ?_
    refine v_imul F dX11_give_110 ?_
    refine v_iload F dX11_give_111 rfl ?_
    refine v_iadd F dX11_give_113 ?_
    refine v_iconst F dX11_give_114 ⟨by decide, by decide⟩ ?_
    obtain ⟨x18, ex18, h⟩ := lv_some h
    refine v_n2 ex18 ?_
    obtain ⟨hi19, h⟩ := ck_some h
    obtain ⟨d20, ed20, h⟩ := sd_some h
    refine v_iast F dX11_give_115 (ar_X11_89 hX hp) hi19 ?_
    refine v_nD ed20 ?_
    obtain ⟨x21, ex21, h⟩ := lv_some h
    refine v_iincN F dX11_give_116 (Nat.le_of_ble_eq_true rfl) rfl ex21 (L' := [mA 1545, mU, mU, mU, mI v4, mI x21]) rfl ?_
    refine v_goto F dX11_give_119 rfl ?_
    cases h
    exact K
theorem fX11_give_94_ok {w : Wd} {l : Launch} {G : Cx} {d m dd : Dt} {a1 a2 a3 v4 v5 : Int} {d' : Dt} {r : Int} {x : (Dt × Int)} (F : Fx w G cX11_give RX11 6 (some .int) { frames := 1, cells := 0, slots := 0, locals := 22 }) (hX : WF dd m) (hp : PB m 1545 11) (h : fX11_give_94 d a1 a2 a3 v4 v5 = some x) (K : (fun q => q = (d', r)) x) : V w l WF G (QM w G WF (some (mI r)) d' m 0 0) d m 0 0 94 [mA 1545, mU, mU, mU, mI v4, mI v5] [] := by
  unfold fX11_give_94 at h
  exact loop_ok (P := fX11_give_94P w l G (QM w G WF (some (mI r)) d' m 0 0) m a1 a2 a3 v4) (fun s x hx h1 h2 => fX11_give_94f_ok F hX hp hx (by
    cases x with
    | inl s' => exact h1 s' rfl
    | inr z => cases h2 z rfl; exact K)) h
theorem fX11_give_64_ok {w : Wd} {l : Launch} {G : Cx} {d m dd : Dt} {a1 a2 a3 v4 s1 s2 s3 : Int} {d' : Dt} {r : Int} {x : (Dt × Int)} (F : Fx w G cX11_give RX11 6 (some .int) { frames := 1, cells := 0, slots := 0, locals := 22 }) (hX : WF dd m) (hp : PB m 1545 11) (h : fX11_give_64 d a1 a2 a3 v4 s1 s2 s3 = some x) (K : (fun q => q = (d', r)) x) : V w l WF G (QM w G WF (some (mI r)) d' m 0 0) d m 0 0 64 [mA 1545, mI a1, mU, mI a3, mI v4, mU] [mI s3, mI s2, mI s1, mA 1606] := by
  unfold fX11_give_64 at h
  refine v_iadd F dX11_give_64 ?_
  obtain ⟨hi9, h⟩ := ck_some h
  obtain ⟨d10, ed10, h⟩ := sd_some h
  refine v_iast F dX11_give_65 (ar_X11_86 hX hp) hi9 ?_
  refine v_nD ed10 ?_
  refine v_aload_n F dX11_give_66 rfl rfl ?_
  refine gf_X11_667 F dX11_give_67 hp (v := 1607) rfl ?_
  refine v_iload F dX11_give_70 rfl ?_
  refine v_iload_n F dX11_give_72 rfl rfl ?_
  obtain ⟨hi11, h⟩ := ck_some h
  obtain ⟨d12, ed12, h⟩ := sd_some h
  refine v_zast F dX11_give_73 (ar_X11_87 hX hp) hi11 ?_
  refine v_nD ed12 ?_
  refine v_aload_n F dX11_give_74 rfl rfl ?_
  refine gf_X11_697 F dX11_give_75 hp (v := 1608) rfl ?_
  refine v_iload F dX11_give_78 rfl ?_
  refine v_aload_n F dX11_give_80 rfl rfl ?_
  refine gf_X11_602 F dX11_give_81 hp (v := 1596) rfl ?_
  refine v_aload_n F dX11_give_84 rfl rfl ?_
  refine v_iload_n F dX11_give_85 rfl rfl ?_
  obtain ⟨x13, hc14, h⟩ := b1_some h
  refine v_callVv (c := 11) F dX11_give_86 cv_X11_632 rfl (PB.ob hp hX (Nat.le_of_ble_eq_true rfl)) (Nat.le_of_ble_eq_true rfl) rfl (vm_X11_rowOf hp hc14) rfl (rOk.of rfl) ?_
  obtain ⟨hi15, h⟩ := ck_some h
  refine v_iald F dX11_give_89 (ar_X11_73 hX hp) hi15 ?_
  obtain ⟨d16, ed16, h⟩ := sd_some h
  refine v_iast F dX11_give_90 (ar_X11_88 hX hp) hi11 ?_
  refine v_nD ed16 ?_
  refine v_iconst F dX11_give_91 ⟨by decide, by decide⟩ ?_
  refine v_istore F dX11_give_92 (Nat.le_of_ble_eq_true rfl) (L' := [mA 1545, mI a1, mU, mI a3, mI v4, mI 0]) rfl ?_
  refine v_fgt (L' := [mA 1545, mU, mU, mU, mI v4, mI 0]) ⟨Or.inl rfl, Or.inr rfl, Or.inl rfl, Or.inr rfl, Or.inl rfl, Or.inl rfl, trivial⟩ ?_
  exact fX11_give_94_ok F hX hp h K
theorem vm_X11_give {w : Wd} {l : Launch} {d m : Dt} {a1 a2 a3 : Int} {d' : Dt} {r : Int} (hp : PB m 1545 11) (h : fX11_give d a1 a2 a3 = some (d', r)) : VM w l WF yX11_give cX11_give 6 (some .int) 1 22 0 0 d m [mA 1545, mI a1, mI a2, mI a3] (some (mI r)) d' m := by
  obtain ⟨x, h, K⟩ : ∃ x, fX11_give d a1 a2 a3 = some x ∧ x = (d', r) := ⟨_, h, rfl⟩
  refine VM.of (L := [mA 1545, mI a1, mI a2, mI a3, mU, mU]) (by decide +kernel) rfl (Nat.le_of_ble_eq_true rfl) fun G F _ => v_fact fun _ hX _ _ => ?_
  unfold fX11_give at h
  refine v_aload_n F dX11_give_0 rfl rfl ?_
  refine gf_X11_543 F dX11_give_1 hp ?_
  obtain ⟨x1, ex1, h⟩ := lv_some h
  refine v_nI ex1 ?_
  refine v_istore F dX11_give_4 (Nat.le_of_ble_eq_true rfl) (L' := [mA 1545, mI a1, mI a2, mI a3, mI x1, mU]) rfl ?_
  refine v_aload_n F dX11_give_6 rfl rfl ?_
  refine v_dup_A F dX11_give_7 ?_
  refine gf_X11_543 F dX11_give_8 hp ?_
  refine v_iconst F dX11_give_11 ⟨by decide, by decide⟩ ?_
  refine v_iadd F dX11_give_12 ?_
  obtain ⟨d2, ed2, h⟩ := sd_some h
  refine pf_X11_543 F dX11_give_13 hp ?_
  refine v_nD ed2 ?_
  refine v_aload_n F dX11_give_16 rfl rfl ?_
  refine gf_X11_691 F dX11_give_17 hp (v := 1603) rfl ?_
  refine v_iload F dX11_give_20 rfl ?_
  refine v_iload_n F dX11_give_22 rfl rfl ?_
  obtain ⟨hi3, h⟩ := ck_some h
  obtain ⟨d4, ed4, h⟩ := sd_some h
  refine v_iast F dX11_give_23 (ar_X11_83 hX hp) hi3 ?_
  refine v_nD ed4 ?_
  refine v_aload_n F dX11_give_24 rfl rfl ?_
  refine gf_X11_661 F dX11_give_25 hp (v := 1604) rfl ?_
  refine v_iload F dX11_give_28 rfl ?_
  refine v_iload_n F dX11_give_30 rfl rfl ?_
  obtain ⟨d5, ed5, h⟩ := sd_some h
  refine v_iast F dX11_give_31 (ar_X11_84 hX hp) hi3 ?_
  refine v_nD ed5 ?_
  refine v_aload_n F dX11_give_32 rfl rfl ?_
  refine gf_X11_658 F dX11_give_33 hp (v := 1605) rfl ?_
  refine v_iload F dX11_give_36 rfl ?_
  refine v_iconst F dX11_give_38 ⟨by decide, by decide⟩ ?_
  obtain ⟨d6, ed6, h⟩ := sd_some h
  refine v_iast F dX11_give_39 (ar_X11_85 hX hp) hi3 ?_
  refine v_nD ed6 ?_
  refine v_aload_n F dX11_give_40 rfl rfl ?_
  refine gf_X11_673 F dX11_give_41 hp (v := 1606) rfl ?_
  refine v_iload F dX11_give_44 rfl ?_
  refine v_iload F dX11_give_46 rfl ?_
  refine v_iload_n F dX11_give_48 rfl rfl ?_
  refine v_bipush F dX11_give_49 rfl ⟨by decide, by decide⟩ ?_
  refine v_icmp_ne F dX11_give_51 rfl (fun hq7 => ?_) (fun hq7 => ?_)
  · rw [if_neg hq7] at h
    refine v_aload_n F dX11_give_58 rfl rfl ?_
    refine gf_X11_649 F dX11_give_59 hp (v := 1601) rfl ?_
    refine v_iload_n F dX11_give_62 rfl rfl ?_
    obtain ⟨hi8, h⟩ := ck_some h
    refine v_iald F dX11_give_63 (ar_X11_80 hX hp) hi8 ?_
    refine v_fgt (L' := [mA 1545, mI a1, mU, mI a3, mI x1, mU]) ⟨Or.inl rfl, Or.inl rfl, Or.inr rfl, Or.inl rfl, Or.inl rfl, Or.inl rfl, trivial⟩ ?_
    exact fX11_give_64_ok F hX hp h K
  · rw [if_pos hq7] at h
    refine v_iconst F dX11_give_54 ⟨by decide, by decide⟩ ?_
    refine v_goto F dX11_give_55 rfl ?_
    refine v_fgt (L' := [mA 1545, mI a1, mU, mI a3, mI x1, mU]) ⟨Or.inl rfl, Or.inl rfl, Or.inr rfl, Or.inl rfl, Or.inl rfl, Or.inl rfl, trivial⟩ ?_
    exact fX11_give_64_ok F hX hp h K
def fX11_checkIn_53P (w : Wd) (l : Launch) (G : Cx) (Q : State → Prop) (m : Dt) (d : Dt) (a1 a2 : Int) (s : Int × Int) : Prop := V w l WF G Q d m 0 0 53 [mA 1545, mI a1, mI a2, mI (s.1), mI (s.2), mU] []
theorem fX11_checkIn_186_ok {w : Wd} {l : Launch} {G : Cx} {d m dd : Dt} {a1 a2 s1 s2 s3 : Int} {d' : Dt} {r : Int} {x : (Dt × Int)} (F : Fx w G cX11_checkIn RX11 6 (some .int) { frames := 3, cells := 0, slots := 0, locals := 73 }) (hX : WF dd m) (hp : PB m 1545 11) (h : fX11_checkIn_186 d a1 a2 s1 s2 s3 = some x) (K : (fun q => q = (d', r)) x) : V w l WF G (QM w G WF (some (mI r)) d' m 0 0) d m 0 0 186 [mA 1545, mI a1, mI a2, mU, mU, mU] [mI s3, mI s2, mI s1, mA 1545] := by
  unfold fX11_checkIn_186 at h
  obtain ⟨d16, x18, hc17, h⟩ := b2_some h
  refine v_callVv (c := 11) F dX11_checkIn_186 cv_X11_706 rfl (PB.ob hp hX (Nat.le_of_ble_eq_true rfl)) (Nat.le_of_ble_eq_true rfl) rfl (vm_X11_give hp hc17) rfl (rOk.of rfl) ?_
  refine v_istore F dX11_checkIn_189 (Nat.le_of_ble_eq_true rfl) (L' := [mA 1545, mI a1, mI a2, mU, mI x18, mU]) rfl ?_
  refine v_aload_n F dX11_checkIn_191 rfl rfl ?_
  refine v_bipush F dX11_checkIn_192 rfl ⟨by decide, by decide⟩ ?_
  refine v_iload_n F dX11_checkIn_194 rfl rfl ?_
  refine v_iload_n F dX11_checkIn_195 rfl rfl ?_
  refine v_iconst F dX11_checkIn_196 ⟨by decide, by decide⟩ ?_
  refine v_iconst F dX11_checkIn_197 ⟨by decide, by decide⟩ ?_
  obtain ⟨d19, hc20, h⟩ := bd_some h
  refine v_callV0 (c := 11) F dX11_checkIn_198 cv_X11_22 rfl (PB.ob hp hX (Nat.le_of_ble_eq_true rfl)) (Nat.le_of_ble_eq_true rfl) rfl (vm_X11_write hp hc20) rfl (rOk.of rfl) ?_
  refine v_iload F dX11_checkIn_201 rfl ?_
  cases h
  cases (show _ = (d', r) from K)
  exact v_iret F dX11_checkIn_203
theorem fX11_checkIn_169_ok {w : Wd} {l : Launch} {G : Cx} {d m dd : Dt} {a1 a2 : Int} {d' : Dt} {r : Int} {x : (Dt × Int)} (F : Fx w G cX11_checkIn RX11 6 (some .int) { frames := 3, cells := 0, slots := 0, locals := 73 }) (hX : WF dd m) (hp : PB m 1545 11) (h : fX11_checkIn_169 d a1 a2 = some x) (K : (fun q => q = (d', r)) x) : V w l WF G (QM w G WF (some (mI r)) d' m 0 0) d m 0 0 169 [mA 1545, mI a1, mI a2, mU, mU, mU] [] := by
  unfold fX11_checkIn_169 at h
  refine v_aload_n F dX11_checkIn_169 rfl rfl ?_
  refine v_iload_n F dX11_checkIn_170 rfl rfl ?_
  refine v_iload_n F dX11_checkIn_171 rfl rfl ?_
  refine v_aload_n F dX11_checkIn_172 rfl rfl ?_
  refine gf_X11_652 F dX11_checkIn_173 hp (v := 1602) rfl ?_
  refine v_iload_n F dX11_checkIn_176 rfl rfl ?_
  obtain ⟨hi14, h⟩ := ck_some h
  refine v_zald F dX11_checkIn_177 (ar_X11_81 hX hp) hi14 ?_
  refine v_if_ne F dX11_checkIn_178 rfl (fun hq15 => ?_) (fun hq15 => ?_)
  · rw [if_neg hq15] at h
    refine v_iconst F dX11_checkIn_185 ⟨by decide, by decide⟩ ?_
    exact fX11_checkIn_186_ok F hX hp h K
  · rw [if_pos hq15] at h
    refine v_iconst F dX11_checkIn_181 ⟨by decide, by decide⟩ ?_
    refine v_goto F dX11_checkIn_182 rfl ?_
    exact fX11_checkIn_186_ok F hX hp h K
theorem fX11_checkIn_106_ok {w : Wd} {l : Launch} {G : Cx} {d m dd : Dt} {a1 a2 v4 v5 : Int} {d' : Dt} {r : Int} {x : ((Int × Int) ⊕ (Dt × Int))} (F : Fx w G cX11_checkIn RX11 6 (some .int) { frames := 3, cells := 0, slots := 0, locals := 73 }) (hX : WF dd m) (hp : PB m 1545 11) (h : fX11_checkIn_106 d a1 a2 v4 v5 = some x) (K : (Sum.elim (fX11_checkIn_53P w l G (QM w G WF (some (mI r)) d' m 0 0) m d a1 a2) (fun q => q = (d', r))) x) : V w l WF G (QM w G WF (some (mI r)) d' m 0 0) d m 0 0 106 [mA 1545, mI a1, mI a2, mU, mI v4, mI v5] [] := by
  unfold fX11_checkIn_106 at h
  refine v_aload_n F dX11_checkIn_106 rfl rfl ?_
  refine gf_X11_652 F dX11_checkIn_107 hp (v := 1602) rfl ?_
  refine v_iload_n F dX11_checkIn_110 rfl rfl ?_
  obtain ⟨hi26, h⟩ := ck_some h
  refine v_zald F dX11_checkIn_111 (ar_X11_81 hX hp) hi26 ?_
  refine v_if_ne F dX11_checkIn_112 rfl (fun hq27 => ?_) (fun hq27 => ?_)
  · rw [if_neg hq27] at h
    obtain ⟨z, hu, ez⟩ := up_some h
    clear h
    subst ez
    have h := hu
    clear hu
    refine v_bipush F dX11_checkIn_133 rfl ⟨by decide, by decide⟩ ?_
    cases h
    cases (show _ = (d', r) from K)
    exact v_iret F dX11_checkIn_135
  · rw [if_pos hq27] at h
    refine v_aload_n F dX11_checkIn_115 rfl rfl ?_
    refine gf_X11_661 F dX11_checkIn_116 hp (v := 1604) rfl ?_
    refine v_iload F dX11_checkIn_119 rfl ?_
    obtain ⟨hi28, h⟩ := ck_some h
    refine v_iald F dX11_checkIn_121 (ar_X11_84 hX hp) hi28 ?_
    refine v_bipush F dX11_checkIn_122 rfl ⟨by decide, by decide⟩ ?_
    refine v_icmp_ne F dX11_checkIn_124 rfl (fun hq29 => ?_) (fun hq29 => ?_)
    · rw [if_neg hq29] at h
      obtain ⟨z, hu, ez⟩ := up_some h
      clear h
      subst ez
      have h := hu
      clear hu
      refine v_bipush F dX11_checkIn_133 rfl ⟨by decide, by decide⟩ ?_
      cases h
      cases (show _ = (d', r) from K)
      exact v_iret F dX11_checkIn_135
    · rw [if_pos hq29] at h
      refine v_iload F dX11_checkIn_127 rfl ?_
      refine v_iconst F dX11_checkIn_129 ⟨by decide, by decide⟩ ?_
      refine v_icmp_ne F dX11_checkIn_130 rfl (fun hq30 => ?_) (fun hq30 => ?_)
      · rw [if_neg hq30] at h
        refine v_iload F dX11_checkIn_136 rfl ?_
        refine v_istore_n F dX11_checkIn_138 rfl (Nat.le_of_ble_eq_true rfl) (L' := [mA 1545, mI a1, mI a2, mI v4, mI v4, mI v5]) rfl ?_
        obtain ⟨x31, ex31, h⟩ := lv_some h
        refine v_iincN F dX11_checkIn_139 (Nat.le_of_ble_eq_true rfl) rfl ex31 (L' := [mA 1545, mI a1, mI a2, mI v4, mI x31, mI v5]) rfl ?_
        refine v_goto F dX11_checkIn_142 rfl ?_
        cases h
        refine v_fgt (L' := [mA 1545, mI a1, mI a2, mI v4, mI x31, mU]) ⟨Or.inl rfl, Or.inl rfl, Or.inl rfl, Or.inl rfl, Or.inl rfl, Or.inr rfl, trivial⟩ ?_
        exact K
      · rw [if_pos hq30] at h
        obtain ⟨z, hu, ez⟩ := up_some h
        clear h
        subst ez
        have h := hu
        clear hu
        refine v_bipush F dX11_checkIn_133 rfl ⟨by decide, by decide⟩ ?_
        cases h
        cases (show _ = (d', r) from K)
        exact v_iret F dX11_checkIn_135
theorem fX11_checkIn_84_ok {w : Wd} {l : Launch} {G : Cx} {d m dd : Dt} {a1 a2 v3 v4 s0 : Int} {d' : Dt} {r : Int} {x : ((Int × Int) ⊕ (Dt × Int))} (F : Fx w G cX11_checkIn RX11 6 (some .int) { frames := 3, cells := 0, slots := 0, locals := 73 }) (hX : WF dd m) (hp : PB m 1545 11) (h : fX11_checkIn_84 d a1 a2 v3 v4 s0 = some x) (K : (Sum.elim (fX11_checkIn_53P w l G (QM w G WF (some (mI r)) d' m 0 0) m d a1 a2) (fun q => q = (d', r))) x) : V w l WF G (QM w G WF (some (mI r)) d' m 0 0) d m 0 0 84 [mA 1545, mI a1, mI a2, mI v3, mI v4, mU] [mI s0] := by
  unfold fX11_checkIn_84 at h
  refine v_istore F dX11_checkIn_84 (Nat.le_of_ble_eq_true rfl) (L' := [mA 1545, mI a1, mI a2, mI v3, mI v4, mI s0]) rfl ?_
  refine v_iload F dX11_checkIn_86 rfl ?_
  refine v_if_eq F dX11_checkIn_88 rfl (fun hq25 => ?_) (fun hq25 => ?_)
  · rw [if_pos hq25] at h
    refine v_fgt (L' := [mA 1545, mI a1, mI a2, mU, mI v4, mI s0]) ⟨Or.inl rfl, Or.inl rfl, Or.inl rfl, Or.inr rfl, Or.inl rfl, Or.inl rfl, trivial⟩ ?_
    exact fX11_checkIn_106_ok F hX hp h K
  · rw [if_neg hq25] at h
    refine v_iload F dX11_checkIn_91 rfl ?_
    refine v_iconst F dX11_checkIn_93 ⟨by decide, by decide⟩ ?_
    refine v_icmp_eq F dX11_checkIn_94 rfl (fun hq32 => ?_) (fun hq32 => ?_)
    · rw [if_pos hq32] at h
      refine v_fgt (L' := [mA 1545, mI a1, mI a2, mU, mI v4, mI s0]) ⟨Or.inl rfl, Or.inl rfl, Or.inl rfl, Or.inr rfl, Or.inl rfl, Or.inl rfl, trivial⟩ ?_
      exact fX11_checkIn_106_ok F hX hp h K
    · rw [if_neg hq32] at h
      refine v_iload F dX11_checkIn_97 rfl ?_
      refine v_iconst F dX11_checkIn_99 ⟨by decide, by decide⟩ ?_
      refine v_icmp_eq F dX11_checkIn_100 rfl (fun hq33 => ?_) (fun hq33 => ?_)
      · rw [if_pos hq33] at h
        refine v_fgt (L' := [mA 1545, mI a1, mI a2, mU, mI v4, mI s0]) ⟨Or.inl rfl, Or.inl rfl, Or.inl rfl, Or.inr rfl, Or.inl rfl, Or.inl rfl, trivial⟩ ?_
        exact fX11_checkIn_106_ok F hX hp h K
      · rw [if_neg hq33] at h
        refine v_goto F dX11_checkIn_103 rfl ?_
        obtain ⟨x34, ex34, h⟩ := lv_some h
        refine v_iincN F dX11_checkIn_139 (Nat.le_of_ble_eq_true rfl) rfl ex34 (L' := [mA 1545, mI a1, mI a2, mI v3, mI x34, mI s0]) rfl ?_
        refine v_goto F dX11_checkIn_142 rfl ?_
        cases h
        refine v_fgt (L' := [mA 1545, mI a1, mI a2, mI v3, mI x34, mU]) ⟨Or.inl rfl, Or.inl rfl, Or.inl rfl, Or.inl rfl, Or.inl rfl, Or.inr rfl, trivial⟩ ?_
        exact K
theorem fX11_checkIn_53f_ok {w : Wd} {l : Launch} {G : Cx} {d m dd : Dt} {a1 a2 : Int} {d' : Dt} {r : Int} {s : Int × Int} {x : ((Int × Int) ⊕ (Dt × Int))} (F : Fx w G cX11_checkIn RX11 6 (some .int) { frames := 3, cells := 0, slots := 0, locals := 73 }) (hX : WF dd m) (hp : PB m 1545 11) (h : fX11_checkIn_53f d a1 a2 s = some x) (K : (Sum.elim (fX11_checkIn_53P w l G (QM w G WF (some (mI r)) d' m 0 0) m d a1 a2) (fun q => q = (d', r))) x) : V w l WF G (QM w G WF (some (mI r)) d' m 0 0) d m 0 0 53 [mA 1545, mI a1, mI a2, mI (s.1), mI (s.2), mU] [] := by
  obtain ⟨v3, v4⟩ := s
  unfold fX11_checkIn_53f at h
  dsimp only at h
  refine v_iload F dX11_checkIn_53 rfl ?_
  refine v_aload_n F dX11_checkIn_55 rfl rfl ?_
  refine gf_X11_543 F dX11_checkIn_56 hp ?_
  refine v_icmp_ge F dX11_checkIn_59 rfl (fun hq11 => ?_) (fun hq11 => ?_)
  · rw [if_pos hq11] at h
    obtain ⟨z, hu, ez⟩ := up_some h
    clear h
    subst ez
    have h := hu
    clear hu
    refine v_aload_n F dX11_checkIn_145 rfl rfl ?_
    refine gf_X11_543 F dX11_checkIn_146 hp ?_
    refine v_sipush F dX11_checkIn_149 rfl ⟨by decide, by decide⟩ ?_
    refine v_icmp_ne F dX11_checkIn_152 rfl (fun hq12 => ?_) (fun hq12 => ?_)
    · rw [if_neg hq12] at h
      refine v_iload_n F dX11_checkIn_158 rfl rfl ?_
      refine v_if_lt F dX11_checkIn_159 rfl (fun hq13 => ?_) (fun hq13 => ?_)
      · rw [if_pos hq13] at h
        refine v_fgt (L' := [mA 1545, mI a1, mI a2, mU, mU, mU]) ⟨Or.inl rfl, Or.inl rfl, Or.inl rfl, Or.inr rfl, Or.inr rfl, Or.inl rfl, trivial⟩ ?_
        exact fX11_checkIn_169_ok F hX hp h K
      · rw [if_neg hq13] at h
        refine v_aload_n F dX11_checkIn_162 rfl rfl ?_
        refine gf_X11_658 F dX11_checkIn_163 hp (v := 1605) rfl ?_
        refine v_iload_n F dX11_checkIn_166 rfl rfl ?_
        refine v_iconst F dX11_checkIn_167 ⟨by decide, by decide⟩ ?_
        obtain ⟨hi21, h⟩ := ck_some h
        obtain ⟨d22, ed22, h⟩ := sd_some h
        refine v_iast F dX11_checkIn_168 (ar_X11_85 hX hp) hi21 ?_
        refine v_nD ed22 ?_
        refine v_fgt (L' := [mA 1545, mI a1, mI a2, mU, mU, mU]) ⟨Or.inl rfl, Or.inl rfl, Or.inl rfl, Or.inr rfl, Or.inr rfl, Or.inl rfl, trivial⟩ ?_
        exact fX11_checkIn_169_ok F hX hp h K
    · rw [if_pos hq12] at h
      refine v_bipush F dX11_checkIn_155 rfl ⟨by decide, by decide⟩ ?_
      cases h
      cases (show _ = (d', r) from K)
      exact v_iret F dX11_checkIn_157
  · rw [if_neg hq11] at h
    refine v_aload_n F dX11_checkIn_62 rfl rfl ?_
    refine gf_X11_691 F dX11_checkIn_63 hp (v := 1603) rfl ?_
    refine v_iload F dX11_checkIn_66 rfl ?_
    obtain ⟨hi23, h⟩ := ck_some h
    refine v_iald F dX11_checkIn_68 (ar_X11_83 hX hp) hi23 ?_
    refine v_iload_n F dX11_checkIn_69 rfl rfl ?_
    refine v_icmp_ne F dX11_checkIn_70 rfl (fun hq24 => ?_) (fun hq24 => ?_)
    · rw [if_neg hq24] at h
      refine v_iconst F dX11_checkIn_83 ⟨by decide, by decide⟩ ?_
      exact fX11_checkIn_84_ok F hX hp h K
    · rw [if_pos hq24] at h
      refine v_aload_n F dX11_checkIn_73 rfl rfl ?_
      refine v_iload_n F dX11_checkIn_74 rfl rfl ?_
      refine v_iload F dX11_checkIn_75 rfl ?_
      obtain ⟨x35, hc36, h⟩ := b1_some h
      refine v_callVv (c := 11) F dX11_checkIn_77 cv_X11_670 rfl (PB.ob hp hX (Nat.le_of_ble_eq_true rfl)) (Nat.le_of_ble_eq_true rfl) rfl (vm_X11_known hp hc36) rfl (rOk.of rfl) ?_
      refine v_goto F dX11_checkIn_80 rfl ?_
      exact fX11_checkIn_84_ok F hX hp h K
theorem fX11_checkIn_53_ok {w : Wd} {l : Launch} {G : Cx} {d m dd : Dt} {a1 a2 v3 v4 : Int} {d' : Dt} {r : Int} {x : (Dt × Int)} (F : Fx w G cX11_checkIn RX11 6 (some .int) { frames := 3, cells := 0, slots := 0, locals := 73 }) (hX : WF dd m) (hp : PB m 1545 11) (h : fX11_checkIn_53 d a1 a2 v3 v4 = some x) (K : (fun q => q = (d', r)) x) : V w l WF G (QM w G WF (some (mI r)) d' m 0 0) d m 0 0 53 [mA 1545, mI a1, mI a2, mI v3, mI v4, mU] [] := by
  unfold fX11_checkIn_53 at h
  exact loop_ok (P := fX11_checkIn_53P w l G (QM w G WF (some (mI r)) d' m 0 0) m d a1 a2) (fun s x hx h1 h2 => fX11_checkIn_53f_ok F hX hp hx (by
    cases x with
    | inl s' => exact h1 s' rfl
    | inr z => cases h2 z rfl; exact K)) h
theorem vm_X11_checkIn {w : Wd} {l : Launch} {d m : Dt} {a1 a2 : Int} {d' : Dt} {r : Int} (hp : PB m 1545 11) (h : fX11_checkIn d a1 a2 = some (d', r)) : VM w l WF yX11_checkIn cX11_checkIn 6 (some .int) 3 73 0 0 d m [mA 1545, mI a1, mI a2] (some (mI r)) d' m := by
  obtain ⟨x, h, K⟩ : ∃ x, fX11_checkIn d a1 a2 = some x ∧ x = (d', r) := ⟨_, h, rfl⟩
  refine VM.of (L := [mA 1545, mI a1, mI a2, mU, mU, mU]) (by decide +kernel) rfl (Nat.le_of_ble_eq_true rfl) fun G F _ => v_fact fun _ hX _ _ => ?_
  unfold fX11_checkIn at h
  refine v_aload_n F dX11_checkIn_0 rfl rfl ?_
  refine v_iload_n F dX11_checkIn_1 rfl rfl ?_
  refine v_callVv (c := 11) F dX11_checkIn_2 cv_X11_655 rfl (PB.ob hp hX (Nat.le_of_ble_eq_true rfl)) (Nat.le_of_ble_eq_true rfl) rfl (vm_X11_isStation hp) rfl (rOk.of rfl) ?_
  refine v_if_eq F dX11_checkIn_5 rfl (fun hq1 => ?_) (fun hq1 => ?_)
  · rw [if_pos hq1] at h
    refine v_iconst F dX11_checkIn_16 ⟨by decide, by decide⟩ ?_
    cases h
    cases (show _ = (d', r) from K)
    exact v_iret F dX11_checkIn_17
  · rw [if_neg hq1] at h
    refine v_aload_n F dX11_checkIn_8 rfl rfl ?_
    refine v_iload_n F dX11_checkIn_9 rfl rfl ?_
    refine v_callVv (c := 11) F dX11_checkIn_10 cv_X11_110 rfl (PB.ob hp hX (Nat.le_of_ble_eq_true rfl)) (Nat.le_of_ble_eq_true rfl) rfl (vm_X11_isPerson hp) rfl (rOk.of rfl) ?_
    refine v_if_ne F dX11_checkIn_13 rfl (fun hq2 => ?_) (fun hq2 => ?_)
    · rw [if_neg hq2] at h
      refine v_aload_n F dX11_checkIn_18 rfl rfl ?_
      obtain ⟨x3, hc4, h⟩ := b1_some h
      refine v_callVv (c := 11) F dX11_checkIn_19 cv_X11_700 rfl (PB.ob hp hX (Nat.le_of_ble_eq_true rfl)) (Nat.le_of_ble_eq_true rfl) rfl (vm_X11_isVoting hp hc4) rfl (rOk.of rfl) ?_
      refine v_if_eq F dX11_checkIn_22 rfl (fun hq5 => ?_) (fun hq5 => ?_)
      · rw [if_pos hq5] at h
        refine v_bipush F dX11_checkIn_34 rfl ⟨by decide, by decide⟩ ?_
        cases h
        cases (show _ = (d', r) from K)
        exact v_iret F dX11_checkIn_36
      · rw [if_neg hq5] at h
        refine v_aload_n F dX11_checkIn_25 rfl rfl ?_
        refine gf_X11_552 F dX11_checkIn_26 hp (v := 1615) rfl ?_
        refine v_iload_n F dX11_checkIn_29 rfl rfl ?_
        obtain ⟨hi6, h⟩ := ck_some h
        refine v_zald F dX11_checkIn_30 (ar_X11_95 hX hp) hi6 ?_
        refine v_if_eq F dX11_checkIn_31 rfl (fun hq7 => ?_) (fun hq7 => ?_)
        · rw [if_pos hq7] at h
          refine v_aload_n F dX11_checkIn_37 rfl rfl ?_
          refine v_iload_n F dX11_checkIn_38 rfl rfl ?_
          obtain ⟨x8, hc9, h⟩ := b1_some h
          refine v_callVv (c := 11) F dX11_checkIn_39 cv_X11_703 rfl (PB.ob hp hX (Nat.le_of_ble_eq_true rfl)) (Nat.le_of_ble_eq_true rfl) rfl (vm_X11_isOnRoll hp hc9) rfl (rOk.of rfl) ?_
          refine v_if_ne F dX11_checkIn_42 rfl (fun hq10 => ?_) (fun hq10 => ?_)
          · rw [if_neg hq10] at h
            refine v_iconst F dX11_checkIn_48 ⟨by decide, by decide⟩ ?_
            refine v_istore_n F dX11_checkIn_49 rfl (Nat.le_of_ble_eq_true rfl) (L' := [mA 1545, mI a1, mI a2, mI (-1), mU, mU]) rfl ?_
            refine v_iconst F dX11_checkIn_50 ⟨by decide, by decide⟩ ?_
            refine v_istore F dX11_checkIn_51 (Nat.le_of_ble_eq_true rfl) (L' := [mA 1545, mI a1, mI a2, mI (-1), mI 0, mU]) rfl ?_
            exact fX11_checkIn_53_ok F hX hp h K
          · rw [if_pos hq10] at h
            refine v_bipush F dX11_checkIn_45 rfl ⟨by decide, by decide⟩ ?_
            cases h
            cases (show _ = (d', r) from K)
            exact v_iret F dX11_checkIn_47
        · rw [if_neg hq7] at h
          refine v_bipush F dX11_checkIn_34 rfl ⟨by decide, by decide⟩ ?_
          cases h
          cases (show _ = (d', r) from K)
          exact v_iret F dX11_checkIn_36
    · rw [if_pos hq2] at h
      refine v_iconst F dX11_checkIn_16 ⟨by decide, by decide⟩ ?_
      cases h
      cases (show _ = (d', r) from K)
      exact v_iret F dX11_checkIn_17
theorem vm_X0_isIssue {w : Wd} {l : Launch} {d m : Dt} {a1 : Int} (hp : PB m 1 0) : VM w l WF yX0_isIssue cX0_isIssue 2 (some .boolean) 1 22 0 0 d m [mA 1, mI a1] (some (mI (fX0_isIssue d a1))) d m := by
  obtain ⟨r, hr⟩ : ∃ r, fX0_isIssue d a1 = r := ⟨_, rfl⟩
  rw [hr]
  obtain ⟨x, h, K⟩ : ∃ x, fX0_isIssue d a1 = x ∧ x = r := ⟨_, hr, rfl⟩
  refine VM.of (L := [mA 1, mI a1]) (by decide +kernel) rfl (Nat.le_of_ble_eq_true rfl) fun G F _ => v_fact fun _ hX _ _ => ?_
  unfold fX0_isIssue at h
  refine v_iload_n F dX0_isIssue_0 rfl rfl ?_
  refine v_iconst F dX0_isIssue_1 ⟨by decide, by decide⟩ ?_
  refine v_aload_n F dX0_isIssue_2 rfl rfl ?_
  refine gf_X0_277 F dX0_isIssue_3 hp ?_
  refine v_iconst F dX0_isIssue_6 ⟨by decide, by decide⟩ ?_
  refine v_isub F dX0_isIssue_7 ?_
  refine v_callSv F dX0_isIssue_8 cs_X0_163 rfl (vm_X0_within) rfl (rOk.of rfl) ?_
  subst h
  cases (show _ = r from K)
  exact v_zret F (fX0_within_z) dX0_isIssue_11
theorem fX0_isIssue_z {d : Dt} {a1 : Int} : fX0_isIssue d a1 = 0 ∨ fX0_isIssue d a1 = 1 := by
  unfold fX0_isIssue
  repeat' (first | exact Or.inl rfl | exact Or.inr rfl | split | assumption | exact fX0_within_z)
def fX0_spoil_32P (w : Wd) (l : Launch) (G : Cx) (Q : State → Prop) (m : Dt) (d : Dt) (a1 v2 : Int) (s : Int × Int) : Prop := V w l WF G Q d m 0 0 32 [mA 1, mI a1, mA v2, mI (s.1), mI (s.2)] []
theorem fX0_spoil_95_ok {w : Wd} {l : Launch} {G : Cx} {d m dd : Dt} {a1 v2 v3 : Int} {d' : Dt} {r : Int} {x : (Dt × Int)} (F : Fx w G cX0_spoil RX0 5 (some .int) { frames := 4, cells := 0, slots := 0, locals := 115 }) (hX : WF dd m) (hp : PB m 1 0) (hv2 : PB m v2 14) (h : fX0_spoil_95 d a1 v2 v3 = some x) (K : (fun q => q = (d', r)) x) : V w l WF G (QM w G WF (some (mI r)) d' m 0 0) d m 0 0 95 [mA 1, mI a1, mA v2, mI v3, mU] [] := by
  unfold fX0_spoil_95 at h
  refine v_aload_n F dX0_spoil_95 rfl rfl ?_
  refine gf_X0_442 F dX0_spoil_96 hv2 ?_
  refine v_bipush F dX0_spoil_99 rfl ⟨by decide, by decide⟩ ?_
  refine v_icmp_eq F dX0_spoil_101 rfl (fun hq10 => ?_) (fun hq10 => ?_)
  · rw [if_pos hq10] at h
    refine v_bipush F dX0_spoil_122 rfl ⟨by decide, by decide⟩ ?_
    cases h
    cases (show _ = (d', r) from K)
    exact v_iret F dX0_spoil_124
  · rw [if_neg hq10] at h
    refine v_aload_n F dX0_spoil_104 rfl rfl ?_
    refine gf_X0_445 F dX0_spoil_105 hv2 ?_
    refine v_if_ne F dX0_spoil_108 rfl (fun hq11 => ?_) (fun hq11 => ?_)
    · rw [if_neg hq11] at h
      refine v_bipush F dX0_spoil_122 rfl ⟨by decide, by decide⟩ ?_
      cases h
      cases (show _ = (d', r) from K)
      exact v_iret F dX0_spoil_124
    · rw [if_pos hq11] at h
      refine v_iload_n F dX0_spoil_111 rfl rfl ?_
      refine v_aload_n F dX0_spoil_112 rfl rfl ?_
      obtain ⟨x12, ex12, h⟩ := lv_some h
      obtain ⟨hn14, h⟩ := ck_some h
      refine gf_X0_42 F dX0_spoil_113 hp ex12 fun hr13 => ?_
      have x12p := hr13.resolve_left hn14
      refine gf_X0_505 F dX0_spoil_116 x12p ?_
      refine v_icmp_lt F dX0_spoil_119 rfl (fun hq15 => ?_) (fun hq15 => ?_)
      · rw [if_pos hq15] at h
        refine v_aload_n F dX0_spoil_125 rfl rfl ?_
        refine v_iconst F dX0_spoil_126 ⟨by decide, by decide⟩ ?_
        obtain ⟨d16, ed16, h⟩ := sd_some h
        refine pf_X0_445 F dX0_spoil_127 hv2 ?_
        refine v_nD ed16 ?_
        refine v_aload_n F dX0_spoil_130 rfl rfl ?_
        refine v_bipush F dX0_spoil_131 rfl ⟨by decide, by decide⟩ ?_
        refine v_iload_n F dX0_spoil_133 rfl rfl ?_
        refine v_iconst F dX0_spoil_134 ⟨by decide, by decide⟩ ?_
        refine v_iconst F dX0_spoil_135 ⟨by decide, by decide⟩ ?_
        refine v_iconst F dX0_spoil_136 ⟨by decide, by decide⟩ ?_
        obtain ⟨d17, hc18, h⟩ := bd_some h
        refine v_callV0 (c := 0) F dX0_spoil_137 cv_X0_173 rfl (PB.ob hp hX (Nat.le_of_ble_eq_true rfl)) (Nat.le_of_ble_eq_true rfl) rfl (vm_X0_write hp hc18) rfl (rOk.of rfl) ?_
        refine v_iload_n F dX0_spoil_140 rfl rfl ?_
        refine v_iconst F dX0_spoil_141 ⟨by decide, by decide⟩ ?_
        refine v_iadd F dX0_spoil_142 ?_
        cases h
        cases (show _ = (d', r) from K)
        exact v_iret F dX0_spoil_143
      · rw [if_neg hq15] at h
        refine v_bipush F dX0_spoil_122 rfl ⟨by decide, by decide⟩ ?_
        cases h
        cases (show _ = (d', r) from K)
        exact v_iret F dX0_spoil_124
theorem fX0_spoil_87_ok {w : Wd} {l : Launch} {G : Cx} {d m dd : Dt} {a1 v2 v4 s0 s1 : Int} {d' : Dt} {r : Int} {x : ((Int × Int) ⊕ (Dt × Int))} (F : Fx w G cX0_spoil RX0 5 (some .int) { frames := 4, cells := 0, slots := 0, locals := 115 }) (hX : WF dd m) (hp : PB m 1 0) (hv2 : PB m v2 14) (h : fX0_spoil_87 d a1 v2 v4 s0 s1 = some x) (K : (Sum.elim (fX0_spoil_32P w l G (QM w G WF (some (mI r)) d' m 0 0) m d a1 v2) (fun q => q = (d', r))) x) : V w l WF G (QM w G WF (some (mI r)) d' m 0 0) d m 0 0 87 [mA 1, mI a1, mA v2, mU, mI v4] [mI s1, mI s0] := by
  unfold fX0_spoil_87 at h
  refine v_iadd F dX0_spoil_87 ?_
  obtain ⟨x25, ex25, h⟩ := lv_some h
  refine v_nI ex25 ?_
  refine v_istore_n F dX0_spoil_88 rfl (Nat.le_of_ble_eq_true rfl) (L' := [mA 1, mI a1, mA v2, mI x25, mI v4]) rfl ?_
  obtain ⟨x26, ex26, h⟩ := lv_some h
  refine v_iincN F dX0_spoil_89 (Nat.le_of_ble_eq_true rfl) rfl ex26 (L' := [mA 1, mI a1, mA v2, mI x25, mI x26]) rfl ?_
  refine v_goto F dX0_spoil_92 rfl ?_
  cases h
  exact K
theorem fX0_spoil_32f_ok {w : Wd} {l : Launch} {G : Cx} {d m dd : Dt} {a1 v2 : Int} {d' : Dt} {r : Int} {s : Int × Int} {x : ((Int × Int) ⊕ (Dt × Int))} (F : Fx w G cX0_spoil RX0 5 (some .int) { frames := 4, cells := 0, slots := 0, locals := 115 }) (hX : WF dd m) (hp : PB m 1 0) (hv2 : PB m v2 14) (h : fX0_spoil_32f d a1 v2 s = some x) (K : (Sum.elim (fX0_spoil_32P w l G (QM w G WF (some (mI r)) d' m 0 0) m d a1 v2) (fun q => q = (d', r))) x) : V w l WF G (QM w G WF (some (mI r)) d' m 0 0) d m 0 0 32 [mA 1, mI a1, mA v2, mI (s.1), mI (s.2)] [] := by
  obtain ⟨v3, v4⟩ := s
  unfold fX0_spoil_32f at h
  dsimp only at h
  refine v_iload F dX0_spoil_32 rfl ?_
  refine v_aload_n F dX0_spoil_34 rfl rfl ?_
  refine gf_X0_277 F dX0_spoil_35 hp ?_
  refine v_icmp_ge F dX0_spoil_38 rfl (fun hq9 => ?_) (fun hq9 => ?_)
  · rw [if_pos hq9] at h
    obtain ⟨z, hu, ez⟩ := up_some h
    clear h
    subst ez
    have h := hu
    clear hu
    refine v_fgt (L' := [mA 1, mI a1, mA v2, mI v3, mU]) ⟨Or.inl rfl, Or.inl rfl, Or.inl rfl, Or.inl rfl, Or.inr rfl, trivial⟩ ?_
    exact fX0_spoil_95_ok F hX hp hv2 h K
  · rw [if_neg hq9] at h
    refine v_aload_n F dX0_spoil_41 rfl rfl ?_
    refine gf_X0_442 F dX0_spoil_42 hv2 ?_
    refine v_bipush F dX0_spoil_45 rfl ⟨by decide, by decide⟩ ?_
    refine v_icmp_eq F dX0_spoil_47 rfl (fun hq19 => ?_) (fun hq19 => ?_)
    · rw [if_pos hq19] at h
      obtain ⟨z, hu, ez⟩ := up_some h
      clear h
      subst ez
      have h := hu
      clear hu
      refine v_fgt (L' := [mA 1, mI a1, mA v2, mI v3, mU]) ⟨Or.inl rfl, Or.inl rfl, Or.inl rfl, Or.inl rfl, Or.inr rfl, trivial⟩ ?_
      exact fX0_spoil_95_ok F hX hp hv2 h K
    · rw [if_neg hq19] at h
      refine v_iload_n F dX0_spoil_50 rfl rfl ?_
      refine v_aload_n F dX0_spoil_51 rfl rfl ?_
      refine gf_X0_111 F dX0_spoil_52 hp (v := 76) rfl ?_
      refine v_iload F dX0_spoil_55 rfl ?_
      obtain ⟨hi20, h⟩ := ck_some h
      obtain ⟨x21, ex21, h⟩ := lv_some h
      obtain ⟨hn23, h⟩ := ck_some h
      refine v_aaldN (t := 112) (c := 14) F dX0_spoil_57 (ar_X0_31 hX hp) (Nat.le_of_ble_eq_true rfl) rfl rfl rfl rfl rfl hi20 ex21 fun hr22 => ?_
      have x21p := hr22.resolve_left hn23
      refine gf_X0_449 F dX0_spoil_58 x21p ?_
      refine v_aload_n F dX0_spoil_61 rfl rfl ?_
      refine gf_X0_449 F dX0_spoil_62 hv2 ?_
      refine v_icmp_ne F dX0_spoil_65 rfl (fun hq24 => ?_) (fun hq24 => ?_)
      · rw [if_neg hq24] at h
        refine v_iconst F dX0_spoil_86 ⟨by decide, by decide⟩ ?_
        refine v_fgt (L' := [mA 1, mI a1, mA v2, mU, mI v4]) ⟨Or.inl rfl, Or.inl rfl, Or.inl rfl, Or.inr rfl, Or.inl rfl, trivial⟩ ?_
        exact fX0_spoil_87_ok F hX hp hv2 h K
      · rw [if_pos hq24] at h
        refine v_aload_n F dX0_spoil_68 rfl rfl ?_
        refine v_aload_n F dX0_spoil_69 rfl rfl ?_
        refine gf_X0_442 F dX0_spoil_70 hv2 ?_
        refine v_iload F dX0_spoil_73 rfl ?_
        obtain ⟨x27, hc28, h⟩ := b1_some h
        refine v_callVv (c := 0) F dX0_spoil_75 cv_X0_439 rfl (PB.ob hp hX (Nat.le_of_ble_eq_true rfl)) (Nat.le_of_ble_eq_true rfl) rfl (vm_X0_knownTo hp hc28) rfl (rOk.of rfl) ?_
        refine v_iconst F dX0_spoil_78 ⟨by decide, by decide⟩ ?_
        refine v_icmp_ne F dX0_spoil_79 rfl (fun hq29 => ?_) (fun hq29 => ?_)
        · rw [if_neg hq29] at h
          refine v_iconst F dX0_spoil_86 ⟨by decide, by decide⟩ ?_
          refine v_fgt (L' := [mA 1, mI a1, mA v2, mU, mI v4]) ⟨Or.inl rfl, Or.inl rfl, Or.inl rfl, Or.inr rfl, Or.inl rfl, trivial⟩ ?_
          exact fX0_spoil_87_ok F hX hp hv2 h K
        · rw [if_pos hq29] at h
          refine v_iconst F dX0_spoil_82 ⟨by decide, by decide⟩ ?_
          refine v_goto F dX0_spoil_83 rfl ?_
          refine v_fgt (L' := [mA 1, mI a1, mA v2, mU, mI v4]) ⟨Or.inl rfl, Or.inl rfl, Or.inl rfl, Or.inr rfl, Or.inl rfl, trivial⟩ ?_
          exact fX0_spoil_87_ok F hX hp hv2 h K
theorem fX0_spoil_32_ok {w : Wd} {l : Launch} {G : Cx} {d m dd : Dt} {a1 v2 v3 v4 : Int} {d' : Dt} {r : Int} {x : (Dt × Int)} (F : Fx w G cX0_spoil RX0 5 (some .int) { frames := 4, cells := 0, slots := 0, locals := 115 }) (hX : WF dd m) (hp : PB m 1 0) (hv2 : PB m v2 14) (h : fX0_spoil_32 d a1 v2 v3 v4 = some x) (K : (fun q => q = (d', r)) x) : V w l WF G (QM w G WF (some (mI r)) d' m 0 0) d m 0 0 32 [mA 1, mI a1, mA v2, mI v3, mI v4] [] := by
  unfold fX0_spoil_32 at h
  exact loop_ok (P := fX0_spoil_32P w l G (QM w G WF (some (mI r)) d' m 0 0) m d a1 v2) (fun s x hx h1 h2 => fX0_spoil_32f_ok F hX hp hv2 hx (by
    cases x with
    | inl s' => exact h1 s' rfl
    | inr z => cases h2 z rfl; exact K)) h
theorem vm_X0_spoil {w : Wd} {l : Launch} {d m : Dt} {a1 : Int} {d' : Dt} {r : Int} (hp : PB m 1 0) (h : fX0_spoil d a1 = some (d', r)) : VM w l WF yX0_spoil cX0_spoil 5 (some .int) 4 115 0 0 d m [mA 1, mI a1] (some (mI r)) d' m := by
  obtain ⟨x, h, K⟩ : ∃ x, fX0_spoil d a1 = some x ∧ x = (d', r) := ⟨_, h, rfl⟩
  refine VM.of (L := [mA 1, mI a1, mU, mU, mU]) (by decide +kernel) rfl (Nat.le_of_ble_eq_true rfl) fun G F _ => v_fact fun _ hX _ _ => ?_
  unfold fX0_spoil at h
  refine v_aload_n F dX0_spoil_0 rfl rfl ?_
  refine v_iload_n F dX0_spoil_1 rfl rfl ?_
  refine v_callVv (c := 0) F dX0_spoil_2 cv_X0_502 rfl (PB.ob hp hX (Nat.le_of_ble_eq_true rfl)) (Nat.le_of_ble_eq_true rfl) rfl (vm_X0_isIssue hp) rfl (rOk.of rfl) ?_
  refine v_if_ne F dX0_spoil_5 rfl (fun hq1 => ?_) (fun hq1 => ?_)
  · rw [if_neg hq1] at h
    refine v_aload_n F dX0_spoil_10 rfl rfl ?_
    obtain ⟨x2, hc3, h⟩ := b1_some h
    refine v_callVv (c := 0) F dX0_spoil_11 cv_X0_489 rfl (PB.ob hp hX (Nat.le_of_ble_eq_true rfl)) (Nat.le_of_ble_eq_true rfl) rfl (vm_X0_isVoting hp hc3) rfl (rOk.of rfl) ?_
    refine v_if_ne F dX0_spoil_14 rfl (fun hq4 => ?_) (fun hq4 => ?_)
    · rw [if_neg hq4] at h
      refine v_aload_n F dX0_spoil_20 rfl rfl ?_
      refine gf_X0_111 F dX0_spoil_21 hp (v := 76) rfl ?_
      refine v_iload_n F dX0_spoil_24 rfl rfl ?_
      obtain ⟨hi5, h⟩ := ck_some h
      obtain ⟨x6, ex6, h⟩ := lv_some h
      obtain ⟨hn8, h⟩ := ck_some h
      refine v_aaldN (t := 112) (c := 14) F dX0_spoil_25 (ar_X0_31 hX hp) (Nat.le_of_ble_eq_true rfl) rfl rfl rfl rfl rfl hi5 ex6 fun hr7 => ?_
      have x6p := hr7.resolve_left hn8
      refine v_astore_n F dX0_spoil_26 rfl (Nat.le_of_ble_eq_true rfl) (L' := [mA 1, mI a1, mA x6, mU, mU]) rfl ?_
      refine v_iconst F dX0_spoil_27 ⟨by decide, by decide⟩ ?_
      refine v_istore_n F dX0_spoil_28 rfl (Nat.le_of_ble_eq_true rfl) (L' := [mA 1, mI a1, mA x6, mI 0, mU]) rfl ?_
      refine v_iconst F dX0_spoil_29 ⟨by decide, by decide⟩ ?_
      refine v_istore F dX0_spoil_30 (Nat.le_of_ble_eq_true rfl) (L' := [mA 1, mI a1, mA x6, mI 0, mI 0]) rfl ?_
      exact fX0_spoil_32_ok F hX hp x6p h K
    · rw [if_pos hq4] at h
      refine v_bipush F dX0_spoil_17 rfl ⟨by decide, by decide⟩ ?_
      cases h
      cases (show _ = (d', r) from K)
      exact v_iret F dX0_spoil_19
  · rw [if_pos hq1] at h
    refine v_iconst F dX0_spoil_8 ⟨by decide, by decide⟩ ?_
    cases h
    cases (show _ = (d', r) from K)
    exact v_iret F dX0_spoil_9
theorem vm_X11_isIssue {w : Wd} {l : Launch} {d m : Dt} {a1 : Int} (hp : PB m 1545 11) : VM w l WF yX11_isIssue cX11_isIssue 2 (some .boolean) 1 25 0 0 d m [mA 1545, mI a1] (some (mI (fX11_isIssue d a1))) d m := by
  obtain ⟨r, hr⟩ : ∃ r, fX11_isIssue d a1 = r := ⟨_, rfl⟩
  rw [hr]
  obtain ⟨x, h, K⟩ : ∃ x, fX11_isIssue d a1 = x ∧ x = r := ⟨_, hr, rfl⟩
  refine VM.of (L := [mA 1545, mI a1]) (by decide +kernel) rfl (Nat.le_of_ble_eq_true rfl) fun G F _ => v_fact fun _ hX _ _ => ?_
  unfold fX11_isIssue at h
  refine v_iload_n F dX11_isIssue_0 rfl rfl ?_
  refine v_i2l F dX11_isIssue_1 ?_
  refine v_lconst0 F dX11_isIssue_2 ?_
  refine v_aload_n F dX11_isIssue_3 rfl rfl ?_
  refine gf_X11_543 F dX11_isIssue_4 hp ?_
  refine v_iconst F dX11_isIssue_7 ⟨by decide, by decide⟩ ?_
  refine v_isub F dX11_isIssue_8 ?_
  refine v_i2l F dX11_isIssue_9 ?_
  refine v_callSv F dX11_isIssue_10 cs_X11_13 rfl (vm_X11_in) rfl (rOk.of rfl) ?_
  subst h
  cases (show _ = r from K)
  exact v_zret F (fX11_in_z) dX11_isIssue_13
theorem fX11_isIssue_z {d : Dt} {a1 : Int} : fX11_isIssue d a1 = 0 ∨ fX11_isIssue d a1 = 1 := by
  unfold fX11_isIssue
  repeat' (first | exact Or.inl rfl | exact Or.inr rfl | split | assumption | exact fX11_in_z)
theorem vm_X11_isAtStation {w : Wd} {l : Launch} {d m : Dt} {a1 : Int} {r : Int} (hp : PB m 1545 11) (h : fX11_isAtStation d a1 = some r) : VM w l WF yX11_isAtStation cX11_isAtStation 2 (some .boolean) 0 0 0 0 d m [mA 1545, mI a1] (some (mI r)) d m := by
  obtain ⟨x, h, K⟩ : ∃ x, fX11_isAtStation d a1 = some x ∧ x = r := ⟨_, h, rfl⟩
  refine VM.of (L := [mA 1545, mI a1]) (by decide +kernel) rfl (Nat.le_of_ble_eq_true rfl) fun G F _ => v_fact fun _ hX _ _ => ?_
  unfold fX11_isAtStation at h
  refine v_aload_n F dX11_isAtStation_0 rfl rfl ?_
  refine gf_X11_661 F dX11_isAtStation_1 hp (v := 1604) rfl ?_
  refine v_iload_n F dX11_isAtStation_4 rfl rfl ?_
  obtain ⟨hi1, h⟩ := ck_some h
  refine v_iald F dX11_isAtStation_5 (ar_X11_84 hX hp) hi1 ?_
  refine v_bipush F dX11_isAtStation_6 rfl ⟨by decide, by decide⟩ ?_
  refine v_icmp_eq F dX11_isAtStation_8 rfl (fun hq2 => ?_) (fun hq2 => ?_)
  · rw [if_pos hq2] at h
    refine v_iconst F dX11_isAtStation_24 ⟨by decide, by decide⟩ ?_
    cases h
    cases (show _ = r from K)
    exact v_zret F (Or.inl rfl) dX11_isAtStation_25
  · rw [if_neg hq2] at h
    refine v_aload_n F dX11_isAtStation_11 rfl rfl ?_
    refine gf_X11_658 F dX11_isAtStation_12 hp (v := 1605) rfl ?_
    refine v_iload_n F dX11_isAtStation_15 rfl rfl ?_
    refine v_iald F dX11_isAtStation_16 (ar_X11_85 hX hp) hi1 ?_
    refine v_if_ne F dX11_isAtStation_17 rfl (fun hq3 => ?_) (fun hq3 => ?_)
    · rw [if_neg hq3] at h
      refine v_iconst F dX11_isAtStation_24 ⟨by decide, by decide⟩ ?_
      cases h
      cases (show _ = r from K)
      exact v_zret F (Or.inl rfl) dX11_isAtStation_25
    · rw [if_pos hq3] at h
      refine v_iconst F dX11_isAtStation_20 ⟨by decide, by decide⟩ ?_
      refine v_goto F dX11_isAtStation_21 rfl ?_
      cases h
      cases (show _ = r from K)
      exact v_zret F (Or.inr rfl) dX11_isAtStation_25
def fX11_spoiledOf_4P (w : Wd) (l : Launch) (G : Cx) (Q : State → Prop) (m : Dt) (d : Dt) (a1 : Int) (s : Int × Int) : Prop := V w l WF G Q d m 0 0 4 [mA 1545, mI a1, mI (s.1), mI (s.2)] []
theorem fX11_spoiledOf_48_ok {w : Wd} {l : Launch} {G : Cx} {d m dd : Dt} {a1 v3 s0 s1 : Int} {r : Int} {x : ((Int × Int) ⊕ Int)} (F : Fx w G cX11_spoiledOf RX11 4 (some .int) { frames := 1, cells := 0, slots := 0, locals := 22 }) (hX : WF dd m) (hp : PB m 1545 11) (h : fX11_spoiledOf_48 d a1 v3 s0 s1 = some x) (K : (Sum.elim (fX11_spoiledOf_4P w l G (QM w G WF (some (mI r)) d m 0 0) m d a1) (fun q => q = r)) x) : V w l WF G (QM w G WF (some (mI r)) d m 0 0) d m 0 0 48 [mA 1545, mI a1, mU, mI v3] [mI s1, mI s0] := by
  unfold fX11_spoiledOf_48 at h
  refine v_iadd F dX11_spoiledOf_48 ?_
  obtain ⟨x5, ex5, h⟩ := lv_some h
  refine v_nI ex5 ?_
  refine v_istore_n F dX11_spoiledOf_49 rfl (Nat.le_of_ble_eq_true rfl) (L' := [mA 1545, mI a1, mI x5, mI v3]) rfl ?_
  obtain ⟨x6, ex6, h⟩ := lv_some h
  refine v_iincN F dX11_spoiledOf_50 (Nat.le_of_ble_eq_true rfl) rfl ex6 (L' := [mA 1545, mI a1, mI x5, mI x6]) rfl ?_
  refine v_goto F dX11_spoiledOf_53 rfl ?_
  cases h
  exact K
theorem fX11_spoiledOf_4f_ok {w : Wd} {l : Launch} {G : Cx} {d m dd : Dt} {a1 : Int} {r : Int} {s : Int × Int} {x : ((Int × Int) ⊕ Int)} (F : Fx w G cX11_spoiledOf RX11 4 (some .int) { frames := 1, cells := 0, slots := 0, locals := 22 }) (hX : WF dd m) (hp : PB m 1545 11) (h : fX11_spoiledOf_4f d a1 s = some x) (K : (Sum.elim (fX11_spoiledOf_4P w l G (QM w G WF (some (mI r)) d m 0 0) m d a1) (fun q => q = r)) x) : V w l WF G (QM w G WF (some (mI r)) d m 0 0) d m 0 0 4 [mA 1545, mI a1, mI (s.1), mI (s.2)] [] := by
  obtain ⟨v2, v3⟩ := s
  unfold fX11_spoiledOf_4f at h
  dsimp only at h
  refine v_iload_n F dX11_spoiledOf_4 rfl rfl ?_
  refine v_aload_n F dX11_spoiledOf_5 rfl rfl ?_
  refine gf_X11_543 F dX11_spoiledOf_6 hp ?_
  refine v_icmp_ge F dX11_spoiledOf_9 rfl (fun hq1 => ?_) (fun hq1 => ?_)
  · rw [if_pos hq1] at h
    obtain ⟨z, hu, ez⟩ := up_some h
    clear h
    subst ez
    have h := hu
    clear hu
    refine v_iload_n F dX11_spoiledOf_56 rfl rfl ?_
    cases h
    cases (show _ = r from K)
    exact v_iret F dX11_spoiledOf_57
  · rw [if_neg hq1] at h
    refine v_iload_n F dX11_spoiledOf_12 rfl rfl ?_
    refine v_aload_n F dX11_spoiledOf_13 rfl rfl ?_
    refine gf_X11_691 F dX11_spoiledOf_14 hp (v := 1603) rfl ?_
    refine v_iload_n F dX11_spoiledOf_17 rfl rfl ?_
    obtain ⟨hi2, h⟩ := ck_some h
    refine v_iald F dX11_spoiledOf_18 (ar_X11_83 hX hp) hi2 ?_
    refine v_aload_n F dX11_spoiledOf_19 rfl rfl ?_
    refine gf_X11_691 F dX11_spoiledOf_20 hp (v := 1603) rfl ?_
    refine v_iload_n F dX11_spoiledOf_23 rfl rfl ?_
    obtain ⟨hi3, h⟩ := ck_some h
    refine v_iald F dX11_spoiledOf_24 (ar_X11_83 hX hp) hi3 ?_
    refine v_icmp_ne F dX11_spoiledOf_25 rfl (fun hq4 => ?_) (fun hq4 => ?_)
    · rw [if_neg hq4] at h
      refine v_iconst F dX11_spoiledOf_47 ⟨by decide, by decide⟩ ?_
      refine v_fgt (L' := [mA 1545, mI a1, mU, mI v3]) ⟨Or.inl rfl, Or.inl rfl, Or.inr rfl, Or.inl rfl, trivial⟩ ?_
      exact fX11_spoiledOf_48_ok F hX hp h K
    · rw [if_pos hq4] at h
      refine v_aload_n F dX11_spoiledOf_28 rfl rfl ?_
      refine v_aload_n F dX11_spoiledOf_29 rfl rfl ?_
      refine gf_X11_661 F dX11_spoiledOf_30 hp (v := 1604) rfl ?_
      refine v_iload_n F dX11_spoiledOf_33 rfl rfl ?_
      refine v_iald F dX11_spoiledOf_34 (ar_X11_84 hX hp) hi3 ?_
      refine v_iload_n F dX11_spoiledOf_35 rfl rfl ?_
      obtain ⟨x7, hc8, h⟩ := b1_some h
      refine v_callVv (c := 11) F dX11_spoiledOf_36 cv_X11_670 rfl (PB.ob hp hX (Nat.le_of_ble_eq_true rfl)) (Nat.le_of_ble_eq_true rfl) rfl (vm_X11_known hp hc8) rfl (rOk.of rfl) ?_
      refine v_iconst F dX11_spoiledOf_39 ⟨by decide, by decide⟩ ?_
      refine v_icmp_ne F dX11_spoiledOf_40 rfl (fun hq9 => ?_) (fun hq9 => ?_)
      · rw [if_neg hq9] at h
        refine v_iconst F dX11_spoiledOf_47 ⟨by decide, by decide⟩ ?_
        refine v_fgt (L' := [mA 1545, mI a1, mU, mI v3]) ⟨Or.inl rfl, Or.inl rfl, Or.inr rfl, Or.inl rfl, trivial⟩ ?_
        exact fX11_spoiledOf_48_ok F hX hp h K
      · rw [if_pos hq9] at h
        refine v_iconst F dX11_spoiledOf_43 ⟨by decide, by decide⟩ ?_
        refine v_goto F dX11_spoiledOf_44 rfl ?_
        refine v_fgt (L' := [mA 1545, mI a1, mU, mI v3]) ⟨Or.inl rfl, Or.inl rfl, Or.inr rfl, Or.inl rfl, trivial⟩ ?_
        exact fX11_spoiledOf_48_ok F hX hp h K
theorem fX11_spoiledOf_4_ok {w : Wd} {l : Launch} {G : Cx} {d m dd : Dt} {a1 v2 v3 : Int} {r : Int} {x : Int} (F : Fx w G cX11_spoiledOf RX11 4 (some .int) { frames := 1, cells := 0, slots := 0, locals := 22 }) (hX : WF dd m) (hp : PB m 1545 11) (h : fX11_spoiledOf_4 d a1 v2 v3 = some x) (K : (fun q => q = r) x) : V w l WF G (QM w G WF (some (mI r)) d m 0 0) d m 0 0 4 [mA 1545, mI a1, mI v2, mI v3] [] := by
  unfold fX11_spoiledOf_4 at h
  exact loop_ok (P := fX11_spoiledOf_4P w l G (QM w G WF (some (mI r)) d m 0 0) m d a1) (fun s x hx h1 h2 => fX11_spoiledOf_4f_ok F hX hp hx (by
    cases x with
    | inl s' => exact h1 s' rfl
    | inr z => cases h2 z rfl; exact K)) h
theorem vm_X11_spoiledOf {w : Wd} {l : Launch} {d m : Dt} {a1 : Int} {r : Int} (hp : PB m 1545 11) (h : fX11_spoiledOf d a1 = some r) : VM w l WF yX11_spoiledOf cX11_spoiledOf 4 (some .int) 1 22 0 0 d m [mA 1545, mI a1] (some (mI r)) d m := by
  obtain ⟨x, h, K⟩ : ∃ x, fX11_spoiledOf d a1 = some x ∧ x = r := ⟨_, h, rfl⟩
  refine VM.of (L := [mA 1545, mI a1, mU, mU]) (by decide +kernel) rfl (Nat.le_of_ble_eq_true rfl) fun G F _ => v_fact fun _ hX _ _ => ?_
  unfold fX11_spoiledOf at h
  refine v_iconst F dX11_spoiledOf_0 ⟨by decide, by decide⟩ ?_
  refine v_istore_n F dX11_spoiledOf_1 rfl (Nat.le_of_ble_eq_true rfl) (L' := [mA 1545, mI a1, mI 0, mU]) rfl ?_
  refine v_iconst F dX11_spoiledOf_2 ⟨by decide, by decide⟩ ?_
  refine v_istore_n F dX11_spoiledOf_3 rfl (Nat.le_of_ble_eq_true rfl) (L' := [mA 1545, mI a1, mI 0, mI 0]) rfl ?_
  exact fX11_spoiledOf_4_ok F hX hp h K
theorem vm_X11_spoil {w : Wd} {l : Launch} {d m : Dt} {a1 : Int} {d' : Dt} {r : Int} (hp : PB m 1545 11) (h : fX11_spoil d a1 = some (d', r)) : VM w l WF yX11_spoil cX11_spoil 2 (some .int) 3 73 0 0 d m [mA 1545, mI a1] (some (mI r)) d' m := by
  obtain ⟨x, h, K⟩ : ∃ x, fX11_spoil d a1 = some x ∧ x = (d', r) := ⟨_, h, rfl⟩
  refine VM.of (L := [mA 1545, mI a1]) (by decide +kernel) rfl (Nat.le_of_ble_eq_true rfl) fun G F _ => v_fact fun _ hX _ _ => ?_
  unfold fX11_spoil at h
  refine v_aload_n F dX11_spoil_0 rfl rfl ?_
  refine v_iload_n F dX11_spoil_1 rfl rfl ?_
  refine v_callVv (c := 11) F dX11_spoil_2 cv_X11_710 rfl (PB.ob hp hX (Nat.le_of_ble_eq_true rfl)) (Nat.le_of_ble_eq_true rfl) rfl (vm_X11_isIssue hp) rfl (rOk.of rfl) ?_
  refine v_if_ne F dX11_spoil_5 rfl (fun hq1 => ?_) (fun hq1 => ?_)
  · rw [if_neg hq1] at h
    refine v_aload_n F dX11_spoil_10 rfl rfl ?_
    obtain ⟨x2, hc3, h⟩ := b1_some h
    refine v_callVv (c := 11) F dX11_spoil_11 cv_X11_700 rfl (PB.ob hp hX (Nat.le_of_ble_eq_true rfl)) (Nat.le_of_ble_eq_true rfl) rfl (vm_X11_isVoting hp hc3) rfl (rOk.of rfl) ?_
    refine v_if_ne F dX11_spoil_14 rfl (fun hq4 => ?_) (fun hq4 => ?_)
    · rw [if_neg hq4] at h
      refine v_aload_n F dX11_spoil_20 rfl rfl ?_
      refine v_iload_n F dX11_spoil_21 rfl rfl ?_
      obtain ⟨x5, hc6, h⟩ := b1_some h
      refine v_callVv (c := 11) F dX11_spoil_22 cv_X11_713 rfl (PB.ob hp hX (Nat.le_of_ble_eq_true rfl)) (Nat.le_of_ble_eq_true rfl) rfl (vm_X11_isAtStation hp hc6) rfl (rOk.of rfl) ?_
      refine v_if_eq F dX11_spoil_25 rfl (fun hq7 => ?_) (fun hq7 => ?_)
      · rw [if_pos hq7] at h
        refine v_bipush F dX11_spoil_42 rfl ⟨by decide, by decide⟩ ?_
        cases h
        cases (show _ = (d', r) from K)
        exact v_iret F dX11_spoil_44
      · rw [if_neg hq7] at h
        refine v_aload_n F dX11_spoil_28 rfl rfl ?_
        refine v_iload_n F dX11_spoil_29 rfl rfl ?_
        obtain ⟨x8, hc9, h⟩ := b1_some h
        refine v_callVv (c := 11) F dX11_spoil_30 cv_X11_716 rfl (PB.ob hp hX (Nat.le_of_ble_eq_true rfl)) (Nat.le_of_ble_eq_true rfl) rfl (vm_X11_spoiledOf hp hc9) rfl (rOk.of rfl) ?_
        refine v_aload_n F dX11_spoil_33 rfl rfl ?_
        refine v_bipush F dX11_spoil_34 rfl ⟨by decide, by decide⟩ ?_
        obtain ⟨x10, hc11, h⟩ := b1_some h
        refine v_callVv (c := 11) F dX11_spoil_36 cv_X11_466 rfl (PB.ob hp hX (Nat.le_of_ble_eq_true rfl)) (Nat.le_of_ble_eq_true rfl) rfl (vm_X11_lawIs hp hc11) rfl (rOk.of rfl) ?_
        refine v_icmp_lt F dX11_spoil_39 rfl (fun hq12 => ?_) (fun hq12 => ?_)
        · rw [if_pos hq12] at h
          refine v_aload_n F dX11_spoil_45 rfl rfl ?_
          refine gf_X11_658 F dX11_spoil_46 hp (v := 1605) rfl ?_
          refine v_iload_n F dX11_spoil_49 rfl rfl ?_
          refine v_iconst F dX11_spoil_50 ⟨by decide, by decide⟩ ?_
          obtain ⟨hi13, h⟩ := ck_some h
          obtain ⟨d14, ed14, h⟩ := sd_some h
          refine v_iast F dX11_spoil_51 (ar_X11_85 hX hp) hi13 ?_
          refine v_nD ed14 ?_
          refine v_aload_n F dX11_spoil_52 rfl rfl ?_
          refine v_bipush F dX11_spoil_53 rfl ⟨by decide, by decide⟩ ?_
          refine v_iload_n F dX11_spoil_55 rfl rfl ?_
          refine v_iconst F dX11_spoil_56 ⟨by decide, by decide⟩ ?_
          refine v_iconst F dX11_spoil_57 ⟨by decide, by decide⟩ ?_
          refine v_iconst F dX11_spoil_58 ⟨by decide, by decide⟩ ?_
          obtain ⟨d15, hc16, h⟩ := bd_some h
          refine v_callV0 (c := 11) F dX11_spoil_59 cv_X11_22 rfl (PB.ob hp hX (Nat.le_of_ble_eq_true rfl)) (Nat.le_of_ble_eq_true rfl) rfl (vm_X11_write hp hc16) rfl (rOk.of rfl) ?_
          refine v_aload_n F dX11_spoil_62 rfl rfl ?_
          refine v_iload_n F dX11_spoil_63 rfl rfl ?_
          obtain ⟨x17, hc18, h⟩ := b1_some h
          refine v_callVv (c := 11) F dX11_spoil_64 cv_X11_716 rfl (PB.ob hp hX (Nat.le_of_ble_eq_true rfl)) (Nat.le_of_ble_eq_true rfl) rfl (vm_X11_spoiledOf hp hc18) rfl (rOk.of rfl) ?_
          cases h
          cases (show _ = (d', r) from K)
          exact v_iret F dX11_spoil_67
        · rw [if_neg hq12] at h
          refine v_bipush F dX11_spoil_42 rfl ⟨by decide, by decide⟩ ?_
          cases h
          cases (show _ = (d', r) from K)
          exact v_iret F dX11_spoil_44
    · rw [if_pos hq4] at h
      refine v_bipush F dX11_spoil_17 rfl ⟨by decide, by decide⟩ ?_
      cases h
      cases (show _ = (d', r) from K)
      exact v_iret F dX11_spoil_19
  · rw [if_pos hq1] at h
    refine v_iconst F dX11_spoil_8 ⟨by decide, by decide⟩ ?_
    cases h
    cases (show _ = (d', r) from K)
    exact v_iret F dX11_spoil_9
def fX0_isSheet_18P (w : Wd) (l : Launch) (G : Cx) (Q : State → Prop) (m : Dt) (d : Dt) (a1 a2 : Int) (s : Int × Int) : Prop := V w l WF G Q d m 0 0 18 [mA 1, mI a1, mU, mI (s.1), mI (s.2)] []
theorem fX0_isSheet_18f_ok {w : Wd} {l : Launch} {G : Cx} {d m dd : Dt} {a1 a2 : Int} {r : Int} {s : Int × Int} {x : ((Int × Int) ⊕ Int)} (F : Fx w G cX0_isSheet RX0 5 (some .boolean) { frames := 1, cells := 0, slots := 0, locals := 23 }) (hX : WF dd m) (hp : PB m 1 0) (h : fX0_isSheet_18f d a1 a2 s = some x) (K : (Sum.elim (fX0_isSheet_18P w l G (QM w G WF (some (mI r)) d m 0 0) m d a1 a2) (fun q => q = r)) x) : V w l WF G (QM w G WF (some (mI r)) d m 0 0) d m 0 0 18 [mA 1, mI a1, mU, mI (s.1), mI (s.2)] [] := by
  obtain ⟨v3, v4⟩ := s
  unfold fX0_isSheet_18f at h
  dsimp only at h
  refine v_iload F dX0_isSheet_18 rfl ?_
  refine v_iload_n F dX0_isSheet_20 rfl rfl ?_
  refine v_icmp_ge F dX0_isSheet_21 rfl (fun hq4 => ?_) (fun hq4 => ?_)
  · rw [if_pos hq4] at h
    obtain ⟨z, hu, ez⟩ := up_some h
    clear h
    subst ez
    have h := hu
    clear hu
    refine v_iload_n F dX0_isSheet_48 rfl rfl ?_
    obtain ⟨hb, h⟩ := ck_some h
    cases h
    cases (show _ = r from K)
    exact v_zret F hb dX0_isSheet_49
  · rw [if_neg hq4] at h
    refine v_iload_n F dX0_isSheet_24 rfl rfl ?_
    refine v_if_eq F dX0_isSheet_25 rfl (fun hq5 => ?_) (fun hq5 => ?_)
    · rw [if_pos hq5] at h
      obtain ⟨z, hu, ez⟩ := up_some h
      clear h
      subst ez
      have h := hu
      clear hu
      refine v_iload_n F dX0_isSheet_48 rfl rfl ?_
      obtain ⟨hb, h⟩ := ck_some h
      cases h
      cases (show _ = r from K)
      exact v_zret F hb dX0_isSheet_49
    · rw [if_neg hq5] at h
      refine v_aload_n F dX0_isSheet_28 rfl rfl ?_
      refine gf_X0_13 F dX0_isSheet_29 hp (v := 2) rfl ?_
      refine v_iload F dX0_isSheet_32 rfl ?_
      obtain ⟨hi6, h⟩ := ck_some h
      refine v_bald F dX0_isSheet_34 (ar_X0_0 hX hp) hi6 ?_
      refine v_iconst F dX0_isSheet_35 ⟨by decide, by decide⟩ ?_
      refine v_bipush F dX0_isSheet_36 rfl ⟨by decide, by decide⟩ ?_
      refine v_callSv F dX0_isSheet_38 cs_X0_163 rfl (vm_X0_within) rfl (rOk.of rfl) ?_
      obtain ⟨x7, ex7, h⟩ := lv_some h
      refine v_nI ex7 ?_
      refine v_istore_n F dX0_isSheet_41 rfl (Nat.le_of_ble_eq_true rfl) (L' := [mA 1, mI a1, mU, mI x7, mI v4]) rfl ?_
      obtain ⟨x8, ex8, h⟩ := lv_some h
      refine v_iincN F dX0_isSheet_42 (Nat.le_of_ble_eq_true rfl) rfl ex8 (L' := [mA 1, mI a1, mU, mI x7, mI x8]) rfl ?_
      refine v_goto F dX0_isSheet_45 rfl ?_
      cases h
      exact K
theorem fX0_isSheet_18_ok {w : Wd} {l : Launch} {G : Cx} {d m dd : Dt} {a1 a2 v3 v4 : Int} {r : Int} {x : Int} (F : Fx w G cX0_isSheet RX0 5 (some .boolean) { frames := 1, cells := 0, slots := 0, locals := 23 }) (hX : WF dd m) (hp : PB m 1 0) (h : fX0_isSheet_18 d a1 a2 v3 v4 = some x) (K : (fun q => q = r) x) : V w l WF G (QM w G WF (some (mI r)) d m 0 0) d m 0 0 18 [mA 1, mI a1, mU, mI v3, mI v4] [] := by
  unfold fX0_isSheet_18 at h
  exact loop_ok (P := fX0_isSheet_18P w l G (QM w G WF (some (mI r)) d m 0 0) m d a1 a2) (fun s x hx h1 h2 => fX0_isSheet_18f_ok F hX hp hx (by
    cases x with
    | inl s' => exact h1 s' rfl
    | inr z => cases h2 z rfl; exact K)) h
theorem vm_X0_isSheet {w : Wd} {l : Launch} {d m : Dt} {a1 a2 : Int} {r : Int} (hp : PB m 1 0) (h : fX0_isSheet d a1 a2 = some r) : VM w l WF yX0_isSheet cX0_isSheet 5 (some .boolean) 1 23 0 0 d m [mA 1, mI a1, mI a2] (some (mI r)) d m := by
  obtain ⟨x, h, K⟩ : ∃ x, fX0_isSheet d a1 a2 = some x ∧ x = r := ⟨_, h, rfl⟩
  refine VM.of (L := [mA 1, mI a1, mI a2, mU, mU]) (by decide +kernel) rfl (Nat.le_of_ble_eq_true rfl) fun G F _ => v_fact fun _ hX _ _ => ?_
  unfold fX0_isSheet at h
  refine v_iload_n F dX0_isSheet_0 rfl rfl ?_
  refine v_aload_n F dX0_isSheet_1 rfl rfl ?_
  refine v_iload_n F dX0_isSheet_2 rfl rfl ?_
  obtain ⟨x1, hc2, h⟩ := b1_some h
  refine v_callVv (c := 0) F dX0_isSheet_3 cv_X0_468 rfl (PB.ob hp hX (Nat.le_of_ble_eq_true rfl)) (Nat.le_of_ble_eq_true rfl) rfl (vm_X0_fieldsOf hp hc2) rfl (rOk.of rfl) ?_
  refine v_icmp_ne F dX0_isSheet_6 rfl (fun hq3 => ?_) (fun hq3 => ?_)
  · rw [if_neg hq3] at h
    refine v_iconst F dX0_isSheet_13 ⟨by decide, by decide⟩ ?_
    refine v_istore_n F dX0_isSheet_14 rfl (Nat.le_of_ble_eq_true rfl) (L' := [mA 1, mI a1, mI a2, mI 0, mU]) rfl ?_
    refine v_iconst F dX0_isSheet_15 ⟨by decide, by decide⟩ ?_
    refine v_istore F dX0_isSheet_16 (Nat.le_of_ble_eq_true rfl) (L' := [mA 1, mI a1, mI a2, mI 0, mI 0]) rfl ?_
    refine v_fgt (L' := [mA 1, mI a1, mU, mI 0, mI 0]) ⟨Or.inl rfl, Or.inl rfl, Or.inr rfl, Or.inl rfl, Or.inl rfl, trivial⟩ ?_
    exact fX0_isSheet_18_ok F hX hp h K
  · rw [if_pos hq3] at h
    refine v_iconst F dX0_isSheet_9 ⟨by decide, by decide⟩ ?_
    refine v_goto F dX0_isSheet_10 rfl ?_
    refine v_istore_n F dX0_isSheet_14 rfl (Nat.le_of_ble_eq_true rfl) (L' := [mA 1, mI a1, mI a2, mI 1, mU]) rfl ?_
    refine v_iconst F dX0_isSheet_15 ⟨by decide, by decide⟩ ?_
    refine v_istore F dX0_isSheet_16 (Nat.le_of_ble_eq_true rfl) (L' := [mA 1, mI a1, mI a2, mI 1, mI 0]) rfl ?_
    refine v_fgt (L' := [mA 1, mI a1, mU, mI 1, mI 0]) ⟨Or.inl rfl, Or.inl rfl, Or.inr rfl, Or.inl rfl, Or.inl rfl, trivial⟩ ?_
    exact fX0_isSheet_18_ok F hX hp h K
theorem fX0_put_110_ok {w : Wd} {l : Launch} {G : Cx} {d m dd : Dt} {a1 v3 : Int} {d' : Dt} {r : Int} {x : (Dt × Int)} (F : Fx w G cX0_put RX0 4 (some .int) { frames := 4, cells := 0, slots := 0, locals := 115 }) (hX : WF dd m) (hp : PB m 1 0) (hv3 : PB m v3 14) (h : fX0_put_110 d a1 v3 = some x) (K : (fun q => q = (d', r)) x) : V w l WF G (QM w G WF (some (mI r)) d' m 0 0) d m 0 0 110 [mA 1, mU, mU, mA v3] [] := by
  unfold fX0_put_110 at h
  refine v_aload_n F dX0_put_110 rfl rfl ?_
  refine v_bipush F dX0_put_111 rfl ⟨by decide, by decide⟩ ?_
  refine v_aload_n F dX0_put_113 rfl rfl ?_
  refine gf_X0_442 F dX0_put_114 hv3 ?_
  refine v_iconst F dX0_put_117 ⟨by decide, by decide⟩ ?_
  refine v_iconst F dX0_put_118 ⟨by decide, by decide⟩ ?_
  refine v_iconst F dX0_put_119 ⟨by decide, by decide⟩ ?_
  obtain ⟨d23, hc24, h⟩ := bd_some h
  refine v_callV0 (c := 0) F dX0_put_120 cv_X0_173 rfl (PB.ob hp hX (Nat.le_of_ble_eq_true rfl)) (Nat.le_of_ble_eq_true rfl) rfl (vm_X0_write hp hc24) rfl (rOk.of rfl) ?_
  refine v_aload_n F dX0_put_123 rfl rfl ?_
  refine gf_X0_445 F dX0_put_124 hv3 ?_
  cases h
  cases (show _ = (d', r) from K)
  exact v_iret F dX0_put_127
theorem vm_X0_put {w : Wd} {l : Launch} {d m : Dt} {a1 : Int} {d' : Dt} {r : Int} (hp : PB m 1 0) (h : fX0_put d a1 = some (d', r)) : VM w l WF yX0_put cX0_put 4 (some .int) 4 115 0 0 d m [mA 1, mI a1] (some (mI r)) d' m := by
  obtain ⟨x, h, K⟩ : ∃ x, fX0_put d a1 = some x ∧ x = (d', r) := ⟨_, h, rfl⟩
  refine VM.of (L := [mA 1, mI a1, mU, mU]) (by decide +kernel) rfl (Nat.le_of_ble_eq_true rfl) fun G F _ => v_fact fun _ hX _ _ => ?_
  unfold fX0_put at h
  refine v_aload_n F dX0_put_0 rfl rfl ?_
  refine gf_X0_160 F dX0_put_1 hp ?_
  obtain ⟨x1, ex1, h⟩ := lv_some h
  refine v_nI ex1 ?_
  refine v_istore_n F dX0_put_4 rfl (Nat.le_of_ble_eq_true rfl) (L' := [mA 1, mI a1, mI x1, mU]) rfl ?_
  refine v_aload_n F dX0_put_5 rfl rfl ?_
  refine v_iconst F dX0_put_6 ⟨by decide, by decide⟩ ?_
  obtain ⟨d2, ed2, h⟩ := sd_some h
  refine pf_X0_160 F dX0_put_7 hp ?_
  refine v_nD ed2 ?_
  refine v_aload_n F dX0_put_10 rfl rfl ?_
  refine v_iload_n F dX0_put_11 rfl rfl ?_
  refine v_callVv (c := 0) F dX0_put_12 cv_X0_502 rfl (PB.ob hp hX (Nat.le_of_ble_eq_true rfl)) (Nat.le_of_ble_eq_true rfl) rfl (vm_X0_isIssue hp) rfl (rOk.of rfl) ?_
  refine v_if_ne F dX0_put_15 rfl (fun hq3 => ?_) (fun hq3 => ?_)
  · rw [if_neg hq3] at h
    refine v_aload_n F dX0_put_20 rfl rfl ?_
    obtain ⟨x4, hc5, h⟩ := b1_some h
    refine v_callVv (c := 0) F dX0_put_21 cv_X0_489 rfl (PB.ob hp hX (Nat.le_of_ble_eq_true rfl)) (Nat.le_of_ble_eq_true rfl) rfl (vm_X0_isVoting hp hc5) rfl (rOk.of rfl) ?_
    refine v_if_ne F dX0_put_24 rfl (fun hq6 => ?_) (fun hq6 => ?_)
    · rw [if_neg hq6] at h
      refine v_aload_n F dX0_put_30 rfl rfl ?_
      refine gf_X0_111 F dX0_put_31 hp (v := 76) rfl ?_
      refine v_iload_n F dX0_put_34 rfl rfl ?_
      obtain ⟨hi7, h⟩ := ck_some h
      obtain ⟨x8, ex8, h⟩ := lv_some h
      obtain ⟨hn10, h⟩ := ck_some h
      refine v_aaldN (t := 112) (c := 14) F dX0_put_35 (ar_X0_31 hX hp) (Nat.le_of_ble_eq_true rfl) rfl rfl rfl rfl rfl hi7 ex8 fun hr9 => ?_
      have x8p := hr9.resolve_left hn10
      refine v_astore_n F dX0_put_36 rfl (Nat.le_of_ble_eq_true rfl) (L' := [mA 1, mI a1, mI x1, mA x8]) rfl ?_
      refine v_aload_n F dX0_put_37 rfl rfl ?_
      refine gf_X0_442 F dX0_put_38 x8p ?_
      refine v_bipush F dX0_put_41 rfl ⟨by decide, by decide⟩ ?_
      refine v_icmp_eq F dX0_put_43 rfl (fun hq11 => ?_) (fun hq11 => ?_)
      · rw [if_pos hq11] at h
        refine v_bipush F dX0_put_53 rfl ⟨by decide, by decide⟩ ?_
        cases h
        cases (show _ = (d', r) from K)
        exact v_iret F dX0_put_55
      · rw [if_neg hq11] at h
        refine v_aload_n F dX0_put_46 rfl rfl ?_
        refine gf_X0_445 F dX0_put_47 x8p ?_
        refine v_if_eq F dX0_put_50 rfl (fun hq12 => ?_) (fun hq12 => ?_)
        · rw [if_pos hq12] at h
          refine v_aload_n F dX0_put_56 rfl rfl ?_
          refine v_iload_n F dX0_put_57 rfl rfl ?_
          refine v_aload_n F dX0_put_58 rfl rfl ?_
          refine gf_X0_462 F dX0_put_59 x8p ?_
          obtain ⟨x13, hc14, h⟩ := b1_some h
          refine v_callVv (c := 0) F dX0_put_62 cv_X0_508 rfl (PB.ob hp hX (Nat.le_of_ble_eq_true rfl)) (Nat.le_of_ble_eq_true rfl) rfl (vm_X0_isSheet hp hc14) rfl (rOk.of rfl) ?_
          refine v_if_ne F dX0_put_65 rfl (fun hq15 => ?_) (fun hq15 => ?_)
          · rw [if_neg hq15] at h
            refine v_aload_n F dX0_put_71 rfl rfl ?_
            refine gf_X0_13 F dX0_put_72 hp (v := 2) rfl ?_
            refine v_iconst F dX0_put_75 ⟨by decide, by decide⟩ ?_
            refine v_aload_n F dX0_put_76 rfl rfl ?_
            refine gf_X0_465 F dX0_put_77 x8p (v := (x8 + 1)) rfl ?_
            refine v_iconst F dX0_put_80 ⟨by decide, by decide⟩ ?_
            refine v_iload_n F dX0_put_81 rfl rfl ?_
            obtain ⟨hi17, h⟩ := ck_some h
            obtain ⟨d16, ed16, h⟩ := cd_some h
            refine v_copy (t := 102) F dX0_put_82 ca_X0_511 (ar_X0_0 hX hp) (ar_X15_7 hX x8p) (Nat.le_of_ble_eq_true rfl) (Or.inr (Or.inl rfl)) rfl rfl hi17 rfl ?_
            refine v_nD ed16 ?_
            refine v_aload_n F dX0_put_85 rfl rfl ?_
            refine gf_X0_101 F dX0_put_86 hp (v := 68) rfl ?_
            refine v_aload_n F dX0_put_89 rfl rfl ?_
            refine gf_X0_442 F dX0_put_90 x8p ?_
            obtain ⟨x18, ex18, h⟩ := lv_some h
            refine v_nI ex18 ?_
            obtain ⟨hi19, h⟩ := ck_some h
            refine v_zald F dX0_put_93 (ar_X0_28 hX hp) hi19 ?_
            refine v_if_eq F dX0_put_94 rfl (fun hq20 => ?_) (fun hq20 => ?_)
            · rw [if_pos hq20] at h
              refine v_aload_n F dX0_put_105 rfl rfl ?_
              refine v_aload_n F dX0_put_106 rfl rfl ?_
              obtain ⟨d21, hc22, h⟩ := bd_some h
              refine v_callV0 (c := 0) F dX0_put_107 cv_X0_482 rfl (PB.ob hp hX (Nat.le_of_ble_eq_true rfl)) (Nat.le_of_ble_eq_true rfl) rfl (vm_X0_intoBox hp x8p hc22) rfl (rOk.of rfl) ?_
              refine v_fgt (L' := [mA 1, mU, mU, mA x8]) ⟨Or.inl rfl, Or.inr rfl, Or.inr rfl, Or.inl rfl, trivial⟩ ?_
              exact fX0_put_110_ok F hX hp x8p h K
            · rw [if_neg hq20] at h
              refine v_aload_n F dX0_put_97 rfl rfl ?_
              refine v_iconst F dX0_put_98 ⟨by decide, by decide⟩ ?_
              obtain ⟨d25, ed25, h⟩ := sd_some h
              refine pf_X0_445 F dX0_put_99 x8p ?_
              refine v_nD ed25 ?_
              refine v_goto F dX0_put_102 rfl ?_
              refine v_fgt (L' := [mA 1, mU, mU, mA x8]) ⟨Or.inl rfl, Or.inr rfl, Or.inr rfl, Or.inl rfl, trivial⟩ ?_
              exact fX0_put_110_ok F hX hp x8p h K
          · rw [if_pos hq15] at h
            refine v_bipush F dX0_put_68 rfl ⟨by decide, by decide⟩ ?_
            cases h
            cases (show _ = (d', r) from K)
            exact v_iret F dX0_put_70
        · rw [if_neg hq12] at h
          refine v_bipush F dX0_put_53 rfl ⟨by decide, by decide⟩ ?_
          cases h
          cases (show _ = (d', r) from K)
          exact v_iret F dX0_put_55
    · rw [if_pos hq6] at h
      refine v_bipush F dX0_put_27 rfl ⟨by decide, by decide⟩ ?_
      cases h
      cases (show _ = (d', r) from K)
      exact v_iret F dX0_put_29
  · rw [if_pos hq3] at h
    refine v_iconst F dX0_put_18 ⟨by decide, by decide⟩ ?_
    cases h
    cases (show _ = (d', r) from K)
    exact v_iret F dX0_put_19
def fX11_areMarks_23P (w : Wd) (l : Launch) (G : Cx) (Q : State → Prop) (m : Dt) (d : Dt) (a1 a2 : Int) (s : Int × Int) : Prop := V w l WF G Q d m 0 0 23 [mA 1545, mU, mI a2, mI (s.1), mI (s.2)] []
theorem fX11_areMarks_23f_ok {w : Wd} {l : Launch} {G : Cx} {d m dd : Dt} {a1 a2 : Int} {r : Int} {s : Int × Int} {x : ((Int × Int) ⊕ Int)} (F : Fx w G cX11_areMarks RX11 5 (some .boolean) { frames := 1, cells := 0, slots := 0, locals := 25 }) (hX : WF dd m) (hp : PB m 1545 11) (h : fX11_areMarks_23f d a1 a2 s = some x) (K : (Sum.elim (fX11_areMarks_23P w l G (QM w G WF (some (mI r)) d m 0 0) m d a1 a2) (fun q => q = r)) x) : V w l WF G (QM w G WF (some (mI r)) d m 0 0) d m 0 0 23 [mA 1545, mU, mI a2, mI (s.1), mI (s.2)] [] := by
  obtain ⟨v3, v4⟩ := s
  unfold fX11_areMarks_23f at h
  dsimp only at h
  refine v_iload F dX11_areMarks_23 rfl ?_
  refine v_iload_n F dX11_areMarks_25 rfl rfl ?_
  refine v_icmp_ge F dX11_areMarks_26 rfl (fun hq5 => ?_) (fun hq5 => ?_)
  · rw [if_pos hq5] at h
    obtain ⟨z, hu, ez⟩ := up_some h
    clear h
    subst ez
    have h := hu
    clear hu
    refine v_iload_n F dX11_areMarks_55 rfl rfl ?_
    obtain ⟨hb, h⟩ := ck_some h
    cases h
    cases (show _ = r from K)
    exact v_zret F hb dX11_areMarks_56
  · rw [if_neg hq5] at h
    refine v_iload_n F dX11_areMarks_29 rfl rfl ?_
    refine v_if_eq F dX11_areMarks_30 rfl (fun hq6 => ?_) (fun hq6 => ?_)
    · rw [if_pos hq6] at h
      obtain ⟨z, hu, ez⟩ := up_some h
      clear h
      subst ez
      have h := hu
      clear hu
      refine v_iload_n F dX11_areMarks_55 rfl rfl ?_
      obtain ⟨hb, h⟩ := ck_some h
      cases h
      cases (show _ = r from K)
      exact v_zret F hb dX11_areMarks_56
    · rw [if_neg hq6] at h
      refine v_aload_n F dX11_areMarks_33 rfl rfl ?_
      refine gf_X11_9 F dX11_areMarks_34 hp (v := 1546) rfl ?_
      refine v_iload F dX11_areMarks_37 rfl ?_
      obtain ⟨hi7, h⟩ := ck_some h
      refine v_bald F dX11_areMarks_39 (ar_X11_0 hX hp) hi7 ?_
      refine v_i2l F dX11_areMarks_40 ?_
      refine v_lconst0 F dX11_areMarks_41 ?_
      refine v_ldc2 (n := 9) F dX11_areMarks_42 q2497 rfl ⟨by decide, by decide⟩ ?_
      refine v_callSv F dX11_areMarks_45 cs_X11_13 rfl (vm_X11_in) rfl (rOk.of rfl) ?_
      obtain ⟨x8, ex8, h⟩ := lv_some h
      refine v_nI ex8 ?_
      refine v_istore_n F dX11_areMarks_48 rfl (Nat.le_of_ble_eq_true rfl) (L' := [mA 1545, mU, mI a2, mI x8, mI v4]) rfl ?_
      obtain ⟨x9, ex9, h⟩ := lv_some h
      refine v_iincN F dX11_areMarks_49 (Nat.le_of_ble_eq_true rfl) rfl ex9 (L' := [mA 1545, mU, mI a2, mI x8, mI x9]) rfl ?_
      refine v_goto F dX11_areMarks_52 rfl ?_
      cases h
      exact K
theorem fX11_areMarks_23_ok {w : Wd} {l : Launch} {G : Cx} {d m dd : Dt} {a1 a2 v3 v4 : Int} {r : Int} {x : Int} (F : Fx w G cX11_areMarks RX11 5 (some .boolean) { frames := 1, cells := 0, slots := 0, locals := 25 }) (hX : WF dd m) (hp : PB m 1545 11) (h : fX11_areMarks_23 d a1 a2 v3 v4 = some x) (K : (fun q => q = r) x) : V w l WF G (QM w G WF (some (mI r)) d m 0 0) d m 0 0 23 [mA 1545, mU, mI a2, mI v3, mI v4] [] := by
  unfold fX11_areMarks_23 at h
  exact loop_ok (P := fX11_areMarks_23P w l G (QM w G WF (some (mI r)) d m 0 0) m d a1 a2) (fun s x hx h1 h2 => fX11_areMarks_23f_ok F hX hp hx (by
    cases x with
    | inl s' => exact h1 s' rfl
    | inr z => cases h2 z rfl; exact K)) h
theorem vm_X11_areMarks {w : Wd} {l : Launch} {d m : Dt} {a1 a2 : Int} {r : Int} (hp : PB m 1545 11) (h : fX11_areMarks d a1 a2 = some r) : VM w l WF yX11_areMarks cX11_areMarks 5 (some .boolean) 1 25 0 0 d m [mA 1545, mI a1, mI a2] (some (mI r)) d m := by
  obtain ⟨x, h, K⟩ : ∃ x, fX11_areMarks d a1 a2 = some x ∧ x = r := ⟨_, h, rfl⟩
  refine VM.of (L := [mA 1545, mI a1, mI a2, mU, mU]) (by decide +kernel) rfl (Nat.le_of_ble_eq_true rfl) fun G F _ => v_fact fun _ hX _ _ => ?_
  unfold fX11_areMarks at h
  refine v_iload_n F dX11_areMarks_0 rfl rfl ?_
  refine v_aload_n F dX11_areMarks_1 rfl rfl ?_
  refine v_aload_n F dX11_areMarks_2 rfl rfl ?_
  refine gf_X11_697 F dX11_areMarks_3 hp (v := 1608) rfl ?_
  refine v_iload_n F dX11_areMarks_6 rfl rfl ?_
  obtain ⟨hi1, h⟩ := ck_some h
  refine v_iald F dX11_areMarks_7 (ar_X11_88 hX hp) hi1 ?_
  obtain ⟨x2, hc3, h⟩ := b1_some h
  refine v_callVv (c := 11) F dX11_areMarks_8 cv_X11_719 rfl (PB.ob hp hX (Nat.le_of_ble_eq_true rfl)) (Nat.le_of_ble_eq_true rfl) rfl (vm_X11_marksOf hp hc3) rfl (rOk.of rfl) ?_
  refine v_icmp_ne F dX11_areMarks_11 rfl (fun hq4 => ?_) (fun hq4 => ?_)
  · rw [if_neg hq4] at h
    refine v_iconst F dX11_areMarks_18 ⟨by decide, by decide⟩ ?_
    refine v_istore_n F dX11_areMarks_19 rfl (Nat.le_of_ble_eq_true rfl) (L' := [mA 1545, mI a1, mI a2, mI 0, mU]) rfl ?_
    refine v_iconst F dX11_areMarks_20 ⟨by decide, by decide⟩ ?_
    refine v_istore F dX11_areMarks_21 (Nat.le_of_ble_eq_true rfl) (L' := [mA 1545, mI a1, mI a2, mI 0, mI 0]) rfl ?_
    refine v_fgt (L' := [mA 1545, mU, mI a2, mI 0, mI 0]) ⟨Or.inl rfl, Or.inr rfl, Or.inl rfl, Or.inl rfl, Or.inl rfl, trivial⟩ ?_
    exact fX11_areMarks_23_ok F hX hp h K
  · rw [if_pos hq4] at h
    refine v_iconst F dX11_areMarks_14 ⟨by decide, by decide⟩ ?_
    refine v_goto F dX11_areMarks_15 rfl ?_
    refine v_istore_n F dX11_areMarks_19 rfl (Nat.le_of_ble_eq_true rfl) (L' := [mA 1545, mI a1, mI a2, mI 1, mU]) rfl ?_
    refine v_iconst F dX11_areMarks_20 ⟨by decide, by decide⟩ ?_
    refine v_istore F dX11_areMarks_21 (Nat.le_of_ble_eq_true rfl) (L' := [mA 1545, mI a1, mI a2, mI 1, mI 0]) rfl ?_
    refine v_fgt (L' := [mA 1545, mU, mI a2, mI 1, mI 0]) ⟨Or.inl rfl, Or.inr rfl, Or.inl rfl, Or.inl rfl, Or.inl rfl, trivial⟩ ?_
    exact fX11_areMarks_23_ok F hX hp h K
theorem vm_X11_keepMarks {w : Wd} {l : Launch} {d m : Dt} {a1 a2 : Int} {d' : Dt} (hp : PB m 1545 11) (h : fX11_keepMarks d a1 a2 = some d') : VM w l WF yX11_keepMarks cX11_keepMarks 3 none 1 40 0 0 d m [mA 1545, mI a1, mI a2] none d' m := by
  obtain ⟨x, h, K⟩ : ∃ x, fX11_keepMarks d a1 a2 = some x ∧ x = d' := ⟨_, h, rfl⟩
  refine VM.of (L := [mA 1545, mI a1, mI a2]) (by decide +kernel) rfl (Nat.le_of_ble_eq_true rfl) fun G F _ => v_fact fun _ hX _ _ => ?_
  unfold fX11_keepMarks at h
  refine v_aload_n F dX11_keepMarks_0 rfl rfl ?_
  refine gf_X11_9 F dX11_keepMarks_1 hp (v := 1546) rfl ?_
  refine v_iconst F dX11_keepMarks_4 ⟨by decide, by decide⟩ ?_
  refine v_aload_n F dX11_keepMarks_5 rfl rfl ?_
  refine gf_X11_722 F dX11_keepMarks_6 hp (v := 1610) rfl ?_
  refine v_bipush F dX11_keepMarks_9 rfl ⟨by decide, by decide⟩ ?_
  refine v_iload_n F dX11_keepMarks_11 rfl rfl ?_
  refine v_imul F dX11_keepMarks_12 ?_
  refine v_iload_n F dX11_keepMarks_13 rfl rfl ?_
  obtain ⟨x1, ex1, h⟩ := lv_some h
  refine v_n2 ex1 ?_
  obtain ⟨hi3, h⟩ := ck_some h
  obtain ⟨d2, ed2, h⟩ := cd_some h
  refine v_copy (t := 102) F dX11_keepMarks_14 ca_X11_460 (ar_X11_0 hX hp) (ar_X11_90 hX hp) (Nat.le_of_ble_eq_true rfl) (Or.inr (Or.inl rfl)) rfl rfl hi3 rfl ?_
  refine v_nD ed2 ?_
  refine v_aload_n F dX11_keepMarks_17 rfl rfl ?_
  refine gf_X11_9 F dX11_keepMarks_18 hp (v := 1546) rfl ?_
  refine v_iconst F dX11_keepMarks_21 ⟨by decide, by decide⟩ ?_
  refine v_aload_n F dX11_keepMarks_22 rfl rfl ?_
  refine gf_X11_725 F dX11_keepMarks_23 hp (v := 1611) rfl ?_
  refine v_bipush F dX11_keepMarks_26 rfl ⟨by decide, by decide⟩ ?_
  refine v_iload_n F dX11_keepMarks_28 rfl rfl ?_
  refine v_imul F dX11_keepMarks_29 ?_
  refine v_iload_n F dX11_keepMarks_30 rfl rfl ?_
  obtain ⟨x4, ex4, h⟩ := lv_some h
  refine v_n2 ex4 ?_
  obtain ⟨hi6, h⟩ := ck_some h
  obtain ⟨d5, ed5, h⟩ := cd_some h
  refine v_copy (t := 102) F dX11_keepMarks_31 ca_X11_460 (ar_X11_0 hX hp) (ar_X11_91 hX hp) (Nat.le_of_ble_eq_true rfl) (Or.inr (Or.inl rfl)) rfl rfl hi6 rfl ?_
  refine v_nD ed5 ?_
  cases h
  cases (show _ = d' from K)
  exact v_vret F dX11_keepMarks_34
theorem fX11_put_91_ok {w : Wd} {l : Launch} {G : Cx} {d m dd : Dt} {a1 v3 : Int} {d' : Dt} {r : Int} {x : (Dt × Int)} (F : Fx w G cX11_put RX11 4 (some .int) { frames := 3, cells := 0, slots := 0, locals := 73 }) (hX : WF dd m) (hp : PB m 1545 11) (h : fX11_put_91 d a1 v3 = some x) (K : (fun q => q = (d', r)) x) : V w l WF G (QM w G WF (some (mI r)) d' m 0 0) d m 0 0 91 [mA 1545, mI a1, mU, mI v3] [] := by
  unfold fX11_put_91 at h
  refine v_aload_n F dX11_put_91 rfl rfl ?_
  refine v_bipush F dX11_put_92 rfl ⟨by decide, by decide⟩ ?_
  refine v_iload_n F dX11_put_94 rfl rfl ?_
  refine v_iconst F dX11_put_95 ⟨by decide, by decide⟩ ?_
  refine v_iconst F dX11_put_96 ⟨by decide, by decide⟩ ?_
  refine v_iconst F dX11_put_97 ⟨by decide, by decide⟩ ?_
  obtain ⟨d21, hc22, h⟩ := bd_some h
  refine v_callV0 (c := 11) F dX11_put_98 cv_X11_22 rfl (PB.ob hp hX (Nat.le_of_ble_eq_true rfl)) (Nat.le_of_ble_eq_true rfl) rfl (vm_X11_write hp hc22) rfl (rOk.of rfl) ?_
  refine v_aload_n F dX11_put_101 rfl rfl ?_
  refine gf_X11_658 F dX11_put_102 hp (v := 1605) rfl ?_
  refine v_iload_n F dX11_put_105 rfl rfl ?_
  obtain ⟨hi23, h⟩ := ck_some h
  refine v_iald F dX11_put_106 (ar_X11_85 hX hp) hi23 ?_
  cases h
  cases (show _ = (d', r) from K)
  exact v_iret F dX11_put_107
theorem vm_X11_put {w : Wd} {l : Launch} {d m : Dt} {a1 : Int} {d' : Dt} {r : Int} (hp : PB m 1545 11) (h : fX11_put d a1 = some (d', r)) : VM w l WF yX11_put cX11_put 4 (some .int) 3 73 0 0 d m [mA 1545, mI a1] (some (mI r)) d' m := by
  obtain ⟨x, h, K⟩ : ∃ x, fX11_put d a1 = some x ∧ x = (d', r) := ⟨_, h, rfl⟩
  refine VM.of (L := [mA 1545, mI a1, mU, mU]) (by decide +kernel) rfl (Nat.le_of_ble_eq_true rfl) fun G F _ => v_fact fun _ hX _ _ => ?_
  unfold fX11_put at h
  refine v_aload_n F dX11_put_0 rfl rfl ?_
  refine gf_X11_5 F dX11_put_1 hp ?_
  obtain ⟨x1, ex1, h⟩ := lv_some h
  refine v_nI ex1 ?_
  refine v_istore_n F dX11_put_4 rfl (Nat.le_of_ble_eq_true rfl) (L' := [mA 1545, mI a1, mI x1, mU]) rfl ?_
  refine v_aload_n F dX11_put_5 rfl rfl ?_
  refine v_iconst F dX11_put_6 ⟨by decide, by decide⟩ ?_
  obtain ⟨d2, ed2, h⟩ := sd_some h
  refine pf_X11_5 F dX11_put_7 hp ?_
  refine v_nD ed2 ?_
  refine v_aload_n F dX11_put_10 rfl rfl ?_
  refine v_iload_n F dX11_put_11 rfl rfl ?_
  refine v_callVv (c := 11) F dX11_put_12 cv_X11_710 rfl (PB.ob hp hX (Nat.le_of_ble_eq_true rfl)) (Nat.le_of_ble_eq_true rfl) rfl (vm_X11_isIssue hp) rfl (rOk.of rfl) ?_
  refine v_if_ne F dX11_put_15 rfl (fun hq3 => ?_) (fun hq3 => ?_)
  · rw [if_neg hq3] at h
    refine v_aload_n F dX11_put_20 rfl rfl ?_
    obtain ⟨x4, hc5, h⟩ := b1_some h
    refine v_callVv (c := 11) F dX11_put_21 cv_X11_700 rfl (PB.ob hp hX (Nat.le_of_ble_eq_true rfl)) (Nat.le_of_ble_eq_true rfl) rfl (vm_X11_isVoting hp hc5) rfl (rOk.of rfl) ?_
    refine v_if_ne F dX11_put_24 rfl (fun hq6 => ?_) (fun hq6 => ?_)
    · rw [if_neg hq6] at h
      refine v_aload_n F dX11_put_30 rfl rfl ?_
      refine v_iload_n F dX11_put_31 rfl rfl ?_
      obtain ⟨x7, hc8, h⟩ := b1_some h
      refine v_callVv (c := 11) F dX11_put_32 cv_X11_713 rfl (PB.ob hp hX (Nat.le_of_ble_eq_true rfl)) (Nat.le_of_ble_eq_true rfl) rfl (vm_X11_isAtStation hp hc8) rfl (rOk.of rfl) ?_
      refine v_if_ne F dX11_put_35 rfl (fun hq9 => ?_) (fun hq9 => ?_)
      · rw [if_neg hq9] at h
        refine v_aload_n F dX11_put_41 rfl rfl ?_
        refine v_iload_n F dX11_put_42 rfl rfl ?_
        refine v_iload_n F dX11_put_43 rfl rfl ?_
        obtain ⟨x10, hc11, h⟩ := b1_some h
        refine v_callVv (c := 11) F dX11_put_44 cv_X11_728 rfl (PB.ob hp hX (Nat.le_of_ble_eq_true rfl)) (Nat.le_of_ble_eq_true rfl) rfl (vm_X11_areMarks hp hc11) rfl (rOk.of rfl) ?_
        refine v_if_ne F dX11_put_47 rfl (fun hq12 => ?_) (fun hq12 => ?_)
        · rw [if_neg hq12] at h
          refine v_aload_n F dX11_put_53 rfl rfl ?_
          refine v_iload_n F dX11_put_54 rfl rfl ?_
          refine v_iload_n F dX11_put_55 rfl rfl ?_
          obtain ⟨d13, hc14, h⟩ := bd_some h
          refine v_callV0 (c := 11) F dX11_put_56 cv_X11_731 rfl (PB.ob hp hX (Nat.le_of_ble_eq_true rfl)) (Nat.le_of_ble_eq_true rfl) rfl (vm_X11_keepMarks hp hc14) rfl (rOk.of rfl) ?_
          refine v_aload_n F dX11_put_59 rfl rfl ?_
          refine gf_X11_661 F dX11_put_60 hp (v := 1604) rfl ?_
          refine v_iload_n F dX11_put_63 rfl rfl ?_
          obtain ⟨hi15, h⟩ := ck_some h
          refine v_iald F dX11_put_64 (ar_X11_84 hX hp) hi15 ?_
          obtain ⟨x16, ex16, h⟩ := lv_some h
          refine v_nI ex16 ?_
          refine v_istore_n F dX11_put_65 rfl (Nat.le_of_ble_eq_true rfl) (L' := [mA 1545, mI a1, mI x1, mI x16]) rfl ?_
          refine v_aload_n F dX11_put_66 rfl rfl ?_
          refine gf_X11_652 F dX11_put_67 hp (v := 1602) rfl ?_
          refine v_iload_n F dX11_put_70 rfl rfl ?_
          obtain ⟨hi17, h⟩ := ck_some h
          refine v_zald F dX11_put_71 (ar_X11_81 hX hp) hi17 ?_
          refine v_if_eq F dX11_put_72 rfl (fun hq18 => ?_) (fun hq18 => ?_)
          · rw [if_pos hq18] at h
            refine v_aload_n F dX11_put_85 rfl rfl ?_
            refine v_iload_n F dX11_put_86 rfl rfl ?_
            refine v_iload_n F dX11_put_87 rfl rfl ?_
            obtain ⟨d19, hc20, h⟩ := bd_some h
            refine v_callV0 (c := 11) F dX11_put_88 cv_X11_688 rfl (PB.ob hp hX (Nat.le_of_ble_eq_true rfl)) (Nat.le_of_ble_eq_true rfl) rfl (vm_X11_intoBox hp hc20) rfl (rOk.of rfl) ?_
            refine v_fgt (L' := [mA 1545, mI a1, mU, mI x16]) ⟨Or.inl rfl, Or.inl rfl, Or.inr rfl, Or.inl rfl, trivial⟩ ?_
            exact fX11_put_91_ok F hX hp h K
          · rw [if_neg hq18] at h
            refine v_aload_n F dX11_put_75 rfl rfl ?_
            refine gf_X11_658 F dX11_put_76 hp (v := 1605) rfl ?_
            refine v_iload_n F dX11_put_79 rfl rfl ?_
            refine v_iconst F dX11_put_80 ⟨by decide, by decide⟩ ?_
            obtain ⟨d24, ed24, h⟩ := sd_some h
            refine v_iast F dX11_put_81 (ar_X11_85 hX hp) hi15 ?_
            refine v_nD ed24 ?_
            refine v_goto F dX11_put_82 rfl ?_
            refine v_fgt (L' := [mA 1545, mI a1, mU, mI x16]) ⟨Or.inl rfl, Or.inl rfl, Or.inr rfl, Or.inl rfl, trivial⟩ ?_
            exact fX11_put_91_ok F hX hp h K
        · rw [if_pos hq12] at h
          refine v_bipush F dX11_put_50 rfl ⟨by decide, by decide⟩ ?_
          cases h
          cases (show _ = (d', r) from K)
          exact v_iret F dX11_put_52
      · rw [if_pos hq9] at h
        refine v_bipush F dX11_put_38 rfl ⟨by decide, by decide⟩ ?_
        cases h
        cases (show _ = (d', r) from K)
        exact v_iret F dX11_put_40
    · rw [if_pos hq6] at h
      refine v_bipush F dX11_put_27 rfl ⟨by decide, by decide⟩ ?_
      cases h
      cases (show _ = (d', r) from K)
      exact v_iret F dX11_put_29
  · rw [if_pos hq3] at h
    refine v_iconst F dX11_put_18 ⟨by decide, by decide⟩ ?_
    cases h
    cases (show _ = (d', r) from K)
    exact v_iret F dX11_put_19
theorem vm_X0_isMailing {w : Wd} {l : Launch} {d m : Dt} {r : Int} (hp : PB m 1 0) (h : fX0_isMailing d = some r) : VM w l WF yX0_isMailing cX0_isMailing 1 (some .boolean) 0 0 0 0 d m [mA 1] (some (mI r)) d m := by
  obtain ⟨x, h, K⟩ : ∃ x, fX0_isMailing d = some x ∧ x = r := ⟨_, h, rfl⟩
  refine VM.of (L := [mA 1]) (by decide +kernel) rfl (Nat.le_of_ble_eq_true rfl) fun G F _ => v_fact fun _ hX _ _ => ?_
  unfold fX0_isMailing at h
  refine v_aload_n F dX0_isMailing_0 rfl rfl ?_
  obtain ⟨x1, ex1, h⟩ := lv_some h
  obtain ⟨hn3, h⟩ := ck_some h
  refine gf_X0_42 F dX0_isMailing_1 hp ex1 fun hr2 => ?_
  have x1p := hr2.resolve_left hn3
  refine gf_X0_433 F dX0_isMailing_4 x1p ?_
  refine v_if_eq F dX0_isMailing_7 rfl (fun hq4 => ?_) (fun hq4 => ?_)
  · rw [if_pos hq4] at h
    refine v_iconst F dX0_isMailing_50 ⟨by decide, by decide⟩ ?_
    cases h
    cases (show _ = r from K)
    exact v_zret F (Or.inl rfl) dX0_isMailing_51
  · rw [if_neg hq4] at h
    refine v_aload_n F dX0_isMailing_10 rfl rfl ?_
    refine gf_X0_265 F dX0_isMailing_11 hp ?_
    refine v_if_eq F dX0_isMailing_14 rfl (fun hq5 => ?_) (fun hq5 => ?_)
    · rw [if_pos hq5] at h
      refine v_iconst F dX0_isMailing_50 ⟨by decide, by decide⟩ ?_
      cases h
      cases (show _ = r from K)
      exact v_zret F (Or.inl rfl) dX0_isMailing_51
    · rw [if_neg hq5] at h
      refine v_aload_n F dX0_isMailing_17 rfl rfl ?_
      refine gf_X0_167 F dX0_isMailing_18 hp ?_
      refine v_aload_n F dX0_isMailing_21 rfl rfl ?_
      obtain ⟨x6, ex6, h⟩ := lv_some h
      obtain ⟨hn8, h⟩ := ck_some h
      refine gf_X0_42 F dX0_isMailing_22 hp ex6 fun hr7 => ?_
      have x6p := hr7.resolve_left hn8
      refine gf_X0_293 F dX0_isMailing_25 x6p (v := (x6 + 1)) rfl ?_
      refine v_iconst F dX0_isMailing_28 ⟨by decide, by decide⟩ ?_
      refine v_iald F dX0_isMailing_29 (ar_X4_0 hX x6p) ⟨by decide, by decide⟩ ?_
      refine v_icmp_gt F dX0_isMailing_30 rfl (fun hq9 => ?_) (fun hq9 => ?_)
      · rw [if_pos hq9] at h
        refine v_iconst F dX0_isMailing_50 ⟨by decide, by decide⟩ ?_
        cases h
        cases (show _ = r from K)
        exact v_zret F (Or.inl rfl) dX0_isMailing_51
      · rw [if_neg hq9] at h
        refine v_aload_n F dX0_isMailing_33 rfl rfl ?_
        refine gf_X0_120 F dX0_isMailing_34 hp (v := 78) rfl ?_
        refine v_bipush F dX0_isMailing_37 rfl ⟨by decide, by decide⟩ ?_
        refine v_aaldF (c := 0) (k := 34) F dX0_isMailing_39 hp (Nat.le_of_ble_eq_true rfl) (Nat.le_of_ble_eq_true rfl) (by decide) (by decide) rfl (ar_X0_34 hX hp) (Nat.le_of_ble_eq_true rfl) rfl rfl rfl rfl ⟨by decide, by decide⟩ (v := 1421) (by show 1 + 676 + 124 * 6 = _; omega) ?_
        refine gf_X0_436 F dX0_isMailing_40 (ae_X0_34 (i := 6) hX hp ⟨by decide, by decide⟩ (v := 1421) (by omega)) ?_
        refine v_if_ne F dX0_isMailing_43 rfl (fun hq10 => ?_) (fun hq10 => ?_)
        · rw [if_neg hq10] at h
          refine v_iconst F dX0_isMailing_50 ⟨by decide, by decide⟩ ?_
          cases h
          cases (show _ = r from K)
          exact v_zret F (Or.inl rfl) dX0_isMailing_51
        · rw [if_pos hq10] at h
          refine v_iconst F dX0_isMailing_46 ⟨by decide, by decide⟩ ?_
          refine v_goto F dX0_isMailing_47 rfl ?_
          cases h
          cases (show _ = r from K)
          exact v_zret F (Or.inr rfl) dX0_isMailing_51
def fX0_hasJoined_4P (w : Wd) (l : Launch) (G : Cx) (Q : State → Prop) (m : Dt) (d : Dt) (a1 : Int) (s : Int × Int) : Prop := V w l WF G Q d m 0 0 4 [mA 1, mI a1, mI (s.1), mI (s.2)] []
theorem fX0_hasJoined_55_ok {w : Wd} {l : Launch} {G : Cx} {d m dd : Dt} {a1 v3 s0 s1 : Int} {r : Int} {x : ((Int × Int) ⊕ Int)} (F : Fx w G cX0_hasJoined RX0 4 (some .boolean) { frames := 2, cells := 0, slots := 0, locals := 40 }) (hX : WF dd m) (hp : PB m 1 0) (h : fX0_hasJoined_55 d a1 v3 s0 s1 = some x) (K : (Sum.elim (fX0_hasJoined_4P w l G (QM w G WF (some (mI r)) d m 0 0) m d a1) (fun q => q = r)) x) : V w l WF G (QM w G WF (some (mI r)) d m 0 0) d m 0 0 55 [mA 1, mI a1, mU, mI v3] [mI s1, mI s0] := by
  unfold fX0_hasJoined_55 at h
  refine v_ior F dX0_hasJoined_55 ?_
  obtain ⟨x7, ex7, h⟩ := lv_some h
  refine v_nI ex7 ?_
  refine v_istore_n F dX0_hasJoined_56 rfl (Nat.le_of_ble_eq_true rfl) (L' := [mA 1, mI a1, mI x7, mI v3]) rfl ?_
  obtain ⟨x8, ex8, h⟩ := lv_some h
  refine v_iincN F dX0_hasJoined_57 (Nat.le_of_ble_eq_true rfl) rfl ex8 (L' := [mA 1, mI a1, mI x7, mI x8]) rfl ?_
  refine v_goto F dX0_hasJoined_60 rfl ?_
  cases h
  exact K
theorem fX0_hasJoined_4f_ok {w : Wd} {l : Launch} {G : Cx} {d m dd : Dt} {a1 : Int} {r : Int} {s : Int × Int} {x : ((Int × Int) ⊕ Int)} (F : Fx w G cX0_hasJoined RX0 4 (some .boolean) { frames := 2, cells := 0, slots := 0, locals := 40 }) (hX : WF dd m) (hp : PB m 1 0) (h : fX0_hasJoined_4f d a1 s = some x) (K : (Sum.elim (fX0_hasJoined_4P w l G (QM w G WF (some (mI r)) d m 0 0) m d a1) (fun q => q = r)) x) : V w l WF G (QM w G WF (some (mI r)) d m 0 0) d m 0 0 4 [mA 1, mI a1, mI (s.1), mI (s.2)] [] := by
  obtain ⟨v2, v3⟩ := s
  unfold fX0_hasJoined_4f at h
  dsimp only at h
  refine v_iload_n F dX0_hasJoined_4 rfl rfl ?_
  refine v_aload_n F dX0_hasJoined_5 rfl rfl ?_
  refine gf_X0_277 F dX0_hasJoined_6 hp ?_
  refine v_icmp_ge F dX0_hasJoined_9 rfl (fun hq1 => ?_) (fun hq1 => ?_)
  · rw [if_pos hq1] at h
    obtain ⟨z, hu, ez⟩ := up_some h
    clear h
    subst ez
    have h := hu
    clear hu
    refine v_iload_n F dX0_hasJoined_63 rfl rfl ?_
    obtain ⟨hb, h⟩ := ck_some h
    cases h
    cases (show _ = r from K)
    exact v_zret F hb dX0_hasJoined_64
  · rw [if_neg hq1] at h
    refine v_iload_n F dX0_hasJoined_12 rfl rfl ?_
    refine v_aload_n F dX0_hasJoined_13 rfl rfl ?_
    refine gf_X0_111 F dX0_hasJoined_14 hp (v := 76) rfl ?_
    refine v_iload_n F dX0_hasJoined_17 rfl rfl ?_
    obtain ⟨hi2, h⟩ := ck_some h
    obtain ⟨x3, ex3, h⟩ := lv_some h
    obtain ⟨hn5, h⟩ := ck_some h
    refine v_aaldN (t := 112) (c := 14) F dX0_hasJoined_18 (ar_X0_31 hX hp) (Nat.le_of_ble_eq_true rfl) rfl rfl rfl rfl rfl hi2 ex3 fun hr4 => ?_
    have x3p := hr4.resolve_left hn5
    refine gf_X0_449 F dX0_hasJoined_19 x3p ?_
    refine v_iload_n F dX0_hasJoined_22 rfl rfl ?_
    refine v_icmp_ne F dX0_hasJoined_23 rfl (fun hq6 => ?_) (fun hq6 => ?_)
    · rw [if_neg hq6] at h
      refine v_iconst F dX0_hasJoined_54 ⟨by decide, by decide⟩ ?_
      refine v_fgt (L' := [mA 1, mI a1, mU, mI v3]) ⟨Or.inl rfl, Or.inl rfl, Or.inr rfl, Or.inl rfl, trivial⟩ ?_
      exact fX0_hasJoined_55_ok F hX hp h K
    · rw [if_pos hq6] at h
      refine v_aload_n F dX0_hasJoined_26 rfl rfl ?_
      refine gf_X0_111 F dX0_hasJoined_27 hp (v := 76) rfl ?_
      refine v_iload_n F dX0_hasJoined_30 rfl rfl ?_
      obtain ⟨x9, ex9, h⟩ := lv_some h
      obtain ⟨hn11, h⟩ := ck_some h
      refine v_aaldN (t := 112) (c := 14) F dX0_hasJoined_31 (ar_X0_31 hX hp) (Nat.le_of_ble_eq_true rfl) rfl rfl rfl rfl rfl hi2 ex9 fun hr10 => ?_
      have x9p := hr10.resolve_left hn11
      refine gf_X0_446 F dX0_hasJoined_32 x9p ?_
      refine v_if_eq F dX0_hasJoined_35 rfl (fun hq12 => ?_) (fun hq12 => ?_)
      · rw [if_pos hq12] at h
        refine v_iconst F dX0_hasJoined_54 ⟨by decide, by decide⟩ ?_
        refine v_fgt (L' := [mA 1, mI a1, mU, mI v3]) ⟨Or.inl rfl, Or.inl rfl, Or.inr rfl, Or.inl rfl, trivial⟩ ?_
        exact fX0_hasJoined_55_ok F hX hp h K
      · rw [if_neg hq12] at h
        refine v_aload_n F dX0_hasJoined_38 rfl rfl ?_
        refine gf_X0_111 F dX0_hasJoined_39 hp (v := 76) rfl ?_
        refine v_iload_n F dX0_hasJoined_42 rfl rfl ?_
        obtain ⟨x13, ex13, h⟩ := lv_some h
        obtain ⟨hn15, h⟩ := ck_some h
        refine v_aaldN (t := 112) (c := 14) F dX0_hasJoined_43 (ar_X0_31 hX hp) (Nat.le_of_ble_eq_true rfl) rfl rfl rfl rfl rfl hi2 ex13 fun hr14 => ?_
        have x13p := hr14.resolve_left hn15
        refine v_callVv (c := 14) F dX0_hasJoined_44 cv_X0_450 rfl (PB.ob x13p hX (Nat.le_of_ble_eq_true rfl)) (Nat.le_of_ble_eq_true rfl) rfl (vm_X15_lives x13p) rfl (rOk.of rfl) ?_
        refine v_if_eq F dX0_hasJoined_47 rfl (fun hq16 => ?_) (fun hq16 => ?_)
        · rw [if_pos hq16] at h
          refine v_iconst F dX0_hasJoined_54 ⟨by decide, by decide⟩ ?_
          refine v_fgt (L' := [mA 1, mI a1, mU, mI v3]) ⟨Or.inl rfl, Or.inl rfl, Or.inr rfl, Or.inl rfl, trivial⟩ ?_
          exact fX0_hasJoined_55_ok F hX hp h K
        · rw [if_neg hq16] at h
          refine v_iconst F dX0_hasJoined_50 ⟨by decide, by decide⟩ ?_
          refine v_goto F dX0_hasJoined_51 rfl ?_
          refine v_fgt (L' := [mA 1, mI a1, mU, mI v3]) ⟨Or.inl rfl, Or.inl rfl, Or.inr rfl, Or.inl rfl, trivial⟩ ?_
          exact fX0_hasJoined_55_ok F hX hp h K
theorem fX0_hasJoined_4_ok {w : Wd} {l : Launch} {G : Cx} {d m dd : Dt} {a1 v2 v3 : Int} {r : Int} {x : Int} (F : Fx w G cX0_hasJoined RX0 4 (some .boolean) { frames := 2, cells := 0, slots := 0, locals := 40 }) (hX : WF dd m) (hp : PB m 1 0) (h : fX0_hasJoined_4 d a1 v2 v3 = some x) (K : (fun q => q = r) x) : V w l WF G (QM w G WF (some (mI r)) d m 0 0) d m 0 0 4 [mA 1, mI a1, mI v2, mI v3] [] := by
  unfold fX0_hasJoined_4 at h
  exact loop_ok (P := fX0_hasJoined_4P w l G (QM w G WF (some (mI r)) d m 0 0) m d a1) (fun s x hx h1 h2 => fX0_hasJoined_4f_ok F hX hp hx (by
    cases x with
    | inl s' => exact h1 s' rfl
    | inr z => cases h2 z rfl; exact K)) h
theorem vm_X0_hasJoined {w : Wd} {l : Launch} {d m : Dt} {a1 : Int} {r : Int} (hp : PB m 1 0) (h : fX0_hasJoined d a1 = some r) : VM w l WF yX0_hasJoined cX0_hasJoined 4 (some .boolean) 2 40 0 0 d m [mA 1, mI a1] (some (mI r)) d m := by
  obtain ⟨x, h, K⟩ : ∃ x, fX0_hasJoined d a1 = some x ∧ x = r := ⟨_, h, rfl⟩
  refine VM.of (L := [mA 1, mI a1, mU, mU]) (by decide +kernel) rfl (Nat.le_of_ble_eq_true rfl) fun G F _ => v_fact fun _ hX _ _ => ?_
  unfold fX0_hasJoined at h
  refine v_iconst F dX0_hasJoined_0 ⟨by decide, by decide⟩ ?_
  refine v_istore_n F dX0_hasJoined_1 rfl (Nat.le_of_ble_eq_true rfl) (L' := [mA 1, mI a1, mI 0, mU]) rfl ?_
  refine v_iconst F dX0_hasJoined_2 ⟨by decide, by decide⟩ ?_
  refine v_istore_n F dX0_hasJoined_3 rfl (Nat.le_of_ble_eq_true rfl) (L' := [mA 1, mI a1, mI 0, mI 0]) rfl ?_
  exact fX0_hasJoined_4_ok F hX hp h K
theorem vm_X0_ask {w : Wd} {l : Launch} {d m : Dt} {a1 : Int} {d' m' : Dt} {r : Int} (hp : PB m 1 0) (h : fX0_ask d m a1 = some (d', m', r)) : VM w l WF yX0_ask cX0_ask 2 (some .int) 4 115 2 62 d m [mA 1, mI a1] (some (mI r)) d' m' := by
  obtain ⟨x, h, K⟩ : ∃ x, fX0_ask d m a1 = some x ∧ x = (d', m', r) := ⟨_, h, rfl⟩
  refine VM.of (L := [mA 1, mI a1]) (by decide +kernel) rfl (Nat.le_of_ble_eq_true rfl) fun G F _ => v_fact fun _ hX _ _ => ?_
  unfold fX0_ask at h
  refine v_aload_n F dX0_ask_0 rfl rfl ?_
  refine v_iload_n F dX0_ask_1 rfl rfl ?_
  refine v_callVv (c := 0) F dX0_ask_2 cv_X0_210 rfl (PB.ob hp hX (Nat.le_of_ble_eq_true rfl)) (Nat.le_of_ble_eq_true rfl) rfl (vm_X0_isPerson hp) rfl (rOk.of rfl) ?_
  refine v_if_ne F dX0_ask_5 rfl (fun hq1 => ?_) (fun hq1 => ?_)
  · rw [if_neg hq1] at h
    refine v_aload_n F dX0_ask_10 rfl rfl ?_
    refine gf_X0_237 F dX0_ask_11 hp ?_
    refine v_if_eq F dX0_ask_14 rfl (fun hq2 => ?_) (fun hq2 => ?_)
    · rw [if_pos hq2] at h
      refine v_bipush F dX0_ask_24 rfl ⟨by decide, by decide⟩ ?_
      cases h
      cases (show _ = (d', m', r) from K)
      refine v_widen (mc := 2) (ms := 62) (Nat.zero_le _) (Nat.zero_le _) ?_
      exact v_iret F dX0_ask_26
    · rw [if_neg hq2] at h
      refine v_aload_n F dX0_ask_17 rfl rfl ?_
      obtain ⟨x3, hc4, h⟩ := b1_some h
      refine v_callVv (c := 0) F dX0_ask_18 cv_X0_517 rfl (PB.ob hp hX (Nat.le_of_ble_eq_true rfl)) (Nat.le_of_ble_eq_true rfl) rfl (vm_X0_isMailing hp hc4) rfl (rOk.of rfl) ?_
      refine v_if_ne F dX0_ask_21 rfl (fun hq5 => ?_) (fun hq5 => ?_)
      · rw [if_neg hq5] at h
        refine v_aload_n F dX0_ask_27 rfl rfl ?_
        refine v_iload_n F dX0_ask_28 rfl rfl ?_
        obtain ⟨x6, hc7, h⟩ := b1_some h
        refine v_callVv (c := 0) F dX0_ask_29 cv_X0_492 rfl (PB.ob hp hX (Nat.le_of_ble_eq_true rfl)) (Nat.le_of_ble_eq_true rfl) rfl (vm_X0_isOnRoll hp hc7) rfl (rOk.of rfl) ?_
        refine v_if_eq F dX0_ask_32 rfl (fun hq8 => ?_) (fun hq8 => ?_)
        · rw [if_pos hq8] at h
          refine v_bipush F dX0_ask_43 rfl ⟨by decide, by decide⟩ ?_
          cases h
          cases (show _ = (d', m', r) from K)
          refine v_widen (mc := 2) (ms := 62) (Nat.zero_le _) (Nat.zero_le _) ?_
          exact v_iret F dX0_ask_45
        · rw [if_neg hq8] at h
          refine v_aload_n F dX0_ask_35 rfl rfl ?_
          refine v_iload_n F dX0_ask_36 rfl rfl ?_
          obtain ⟨x9, hc10, h⟩ := b1_some h
          refine v_callVv (c := 0) F dX0_ask_37 cv_X0_520 rfl (PB.ob hp hX (Nat.le_of_ble_eq_true rfl)) (Nat.le_of_ble_eq_true rfl) rfl (vm_X0_hasJoined hp hc10) rfl (rOk.of rfl) ?_
          refine v_if_eq F dX0_ask_40 rfl (fun hq11 => ?_) (fun hq11 => ?_)
          · rw [if_pos hq11] at h
            refine v_aload_n F dX0_ask_46 rfl rfl ?_
            refine gf_X0_277 F dX0_ask_47 hp ?_
            refine v_sipush F dX0_ask_50 rfl ⟨by decide, by decide⟩ ?_
            refine v_icmp_ne F dX0_ask_53 rfl (fun hq12 => ?_) (fun hq12 => ?_)
            · rw [if_neg hq12] at h
              refine v_aload_n F dX0_ask_59 rfl rfl ?_
              refine v_bipush F dX0_ask_60 rfl ⟨by decide, by decide⟩ ?_
              refine v_iload_n F dX0_ask_62 rfl rfl ?_
              refine v_iconst F dX0_ask_63 ⟨by decide, by decide⟩ ?_
              refine v_iconst F dX0_ask_64 ⟨by decide, by decide⟩ ?_
              refine v_iconst F dX0_ask_65 ⟨by decide, by decide⟩ ?_
              obtain ⟨d13, hc14, h⟩ := bd_some h
              refine v_callV0 (c := 0) F dX0_ask_66 cv_X0_173 rfl (PB.ob hp hX (Nat.le_of_ble_eq_true rfl)) (Nat.le_of_ble_eq_true rfl) rfl (vm_X0_write hp hc14) rfl (rOk.of rfl) ?_
              refine v_aload_n F dX0_ask_69 rfl rfl ?_
              refine v_iload_n F dX0_ask_70 rfl rfl ?_
              refine v_bipush F dX0_ask_71 rfl ⟨by decide, by decide⟩ ?_
              refine v_iconst F dX0_ask_73 ⟨by decide, by decide⟩ ?_
              refine v_iconst F dX0_ask_74 ⟨by decide, by decide⟩ ?_
              obtain ⟨d15, m16, x18, hc17, h⟩ := b3_some h
              refine v_callV (c := 0) F dX0_ask_75 cv_X0_498 rfl (PB.ob hp hX (Nat.le_of_ble_eq_true rfl)) (Nat.le_of_ble_eq_true rfl) rfl (vm_X0_give hp hc17) rfl (rOk.of rfl) ?_
              cases h
              cases (show _ = (d', m', r) from K)
              exact v_iret F dX0_ask_78
            · rw [if_pos hq12] at h
              refine v_bipush F dX0_ask_56 rfl ⟨by decide, by decide⟩ ?_
              cases h
              cases (show _ = (d', m', r) from K)
              refine v_widen (mc := 2) (ms := 62) (Nat.zero_le _) (Nat.zero_le _) ?_
              exact v_iret F dX0_ask_58
          · rw [if_neg hq11] at h
            refine v_bipush F dX0_ask_43 rfl ⟨by decide, by decide⟩ ?_
            cases h
            cases (show _ = (d', m', r) from K)
            refine v_widen (mc := 2) (ms := 62) (Nat.zero_le _) (Nat.zero_le _) ?_
            exact v_iret F dX0_ask_45
      · rw [if_pos hq5] at h
        refine v_bipush F dX0_ask_24 rfl ⟨by decide, by decide⟩ ?_
        cases h
        cases (show _ = (d', m', r) from K)
        refine v_widen (mc := 2) (ms := 62) (Nat.zero_le _) (Nat.zero_le _) ?_
        exact v_iret F dX0_ask_26
  · rw [if_pos hq1] at h
    refine v_iconst F dX0_ask_8 ⟨by decide, by decide⟩ ?_
    cases h
    cases (show _ = (d', m', r) from K)
    refine v_widen (mc := 2) (ms := 62) (Nat.zero_le _) (Nat.zero_le _) ?_
    exact v_iret F dX0_ask_9
theorem vm_X11_isMailShut {w : Wd} {l : Launch} {d m : Dt} {r : Int} (hp : PB m 1545 11) (h : fX11_isMailShut d = some r) : VM w l WF yX11_isMailShut cX11_isMailShut 1 (some .boolean) 1 21 0 0 d m [mA 1545] (some (mI r)) d m := by
  obtain ⟨x, h, K⟩ : ∃ x, fX11_isMailShut d = some x ∧ x = r := ⟨_, h, rfl⟩
  refine VM.of (L := [mA 1545]) (by decide +kernel) rfl (Nat.le_of_ble_eq_true rfl) fun G F _ => v_fact fun _ hX _ _ => ?_
  unfold fX11_isMailShut at h
  refine v_aload_n F dX11_isMailShut_0 rfl rfl ?_
  refine gf_X11_141 F dX11_isMailShut_1 hp ?_
  refine v_if_eq F dX11_isMailShut_4 rfl (fun hq1 => ?_) (fun hq1 => ?_)
  · rw [if_pos hq1] at h
    refine v_iconst F dX11_isMailShut_45 ⟨by decide, by decide⟩ ?_
    refine v_goto F dX11_isMailShut_46 rfl ?_
    cases h
    cases (show _ = r from K)
    exact v_zret F (Or.inr rfl) dX11_isMailShut_50
  · rw [if_neg hq1] at h
    refine v_aload_n F dX11_isMailShut_7 rfl rfl ?_
    refine v_bipush F dX11_isMailShut_8 rfl ⟨by decide, by decide⟩ ?_
    obtain ⟨x2, hc3, h⟩ := b1_some h
    refine v_callVv (c := 11) F dX11_isMailShut_10 cv_X11_466 rfl (PB.ob hp hX (Nat.le_of_ble_eq_true rfl)) (Nat.le_of_ble_eq_true rfl) rfl (vm_X11_lawIs hp hc3) rfl (rOk.of rfl) ?_
    refine v_if_eq F dX11_isMailShut_13 rfl (fun hq4 => ?_) (fun hq4 => ?_)
    · rw [if_pos hq4] at h
      refine v_iconst F dX11_isMailShut_45 ⟨by decide, by decide⟩ ?_
      refine v_goto F dX11_isMailShut_46 rfl ?_
      cases h
      cases (show _ = r from K)
      exact v_zret F (Or.inr rfl) dX11_isMailShut_50
    · rw [if_neg hq4] at h
      refine v_aload_n F dX11_isMailShut_16 rfl rfl ?_
      refine gf_X11_531 F dX11_isMailShut_17 hp ?_
      refine v_if_eq F dX11_isMailShut_20 rfl (fun hq5 => ?_) (fun hq5 => ?_)
      · rw [if_pos hq5] at h
        refine v_iconst F dX11_isMailShut_45 ⟨by decide, by decide⟩ ?_
        refine v_goto F dX11_isMailShut_46 rfl ?_
        cases h
        cases (show _ = r from K)
        exact v_zret F (Or.inr rfl) dX11_isMailShut_50
      · rw [if_neg hq5] at h
        refine v_aload_n F dX11_isMailShut_23 rfl rfl ?_
        refine gf_X11_17 F dX11_isMailShut_24 hp ?_
        refine v_aload_n F dX11_isMailShut_27 rfl rfl ?_
        refine v_iconst F dX11_isMailShut_28 ⟨by decide, by decide⟩ ?_
        obtain ⟨x6, hc7, h⟩ := b1_some h
        refine v_callVv (c := 11) F dX11_isMailShut_29 cv_X11_466 rfl (PB.ob hp hX (Nat.le_of_ble_eq_true rfl)) (Nat.le_of_ble_eq_true rfl) rfl (vm_X11_lawIs hp hc7) rfl (rOk.of rfl) ?_
        refine v_icmp_gt F dX11_isMailShut_32 rfl (fun hq8 => ?_) (fun hq8 => ?_)
        · rw [if_pos hq8] at h
          refine v_iconst F dX11_isMailShut_45 ⟨by decide, by decide⟩ ?_
          refine v_goto F dX11_isMailShut_46 rfl ?_
          cases h
          cases (show _ = r from K)
          exact v_zret F (Or.inr rfl) dX11_isMailShut_50
        · rw [if_neg hq8] at h
          refine v_aload_n F dX11_isMailShut_35 rfl rfl ?_
          refine gf_X11_552 F dX11_isMailShut_36 hp (v := 1615) rfl ?_
          refine v_bipush F dX11_isMailShut_39 rfl ⟨by decide, by decide⟩ ?_
          refine v_zald F dX11_isMailShut_41 (ar_X11_95 hX hp) ⟨by decide, by decide⟩ ?_
          refine v_if_eq F dX11_isMailShut_42 rfl (fun hq9 => ?_) (fun hq9 => ?_)
          · rw [if_pos hq9] at h
            refine v_iconst F dX11_isMailShut_49 ⟨by decide, by decide⟩ ?_
            cases h
            cases (show _ = r from K)
            exact v_zret F (Or.inl rfl) dX11_isMailShut_50
          · rw [if_neg hq9] at h
            refine v_iconst F dX11_isMailShut_45 ⟨by decide, by decide⟩ ?_
            refine v_goto F dX11_isMailShut_46 rfl ?_
            cases h
            cases (show _ = r from K)
            exact v_zret F (Or.inr rfl) dX11_isMailShut_50
def fX11_ask_24P (w : Wd) (l : Launch) (G : Cx) (Q : State → Prop) (m : Dt) (d : Dt) (a1 : Int) (s : Int × Int) : Prop := V w l WF G Q d m 0 0 24 [mA 1545, mI a1, mI (s.1), mI (s.2)] []
theorem fX11_ask_65_ok {w : Wd} {l : Launch} {G : Cx} {d m dd : Dt} {a1 v3 s0 s1 : Int} {d' : Dt} {r : Int} {x : ((Int × Int) ⊕ (Dt × Int))} (F : Fx w G cX11_ask RX11 4 (some .int) { frames := 3, cells := 0, slots := 0, locals := 73 }) (hX : WF dd m) (hp : PB m 1545 11) (h : fX11_ask_65 d a1 v3 s0 s1 = some x) (K : (Sum.elim (fX11_ask_24P w l G (QM w G WF (some (mI r)) d' m 0 0) m d a1) (fun q => q = (d', r))) x) : V w l WF G (QM w G WF (some (mI r)) d' m 0 0) d m 0 0 65 [mA 1545, mI a1, mU, mI v3] [mI s1, mI s0] := by
  unfold fX11_ask_65 at h
  refine v_ior F dX11_ask_65 ?_
  obtain ⟨x18, ex18, h⟩ := lv_some h
  refine v_nI ex18 ?_
  refine v_istore_n F dX11_ask_66 rfl (Nat.le_of_ble_eq_true rfl) (L' := [mA 1545, mI a1, mI x18, mI v3]) rfl ?_
  obtain ⟨x19, ex19, h⟩ := lv_some h
  refine v_iincN F dX11_ask_67 (Nat.le_of_ble_eq_true rfl) rfl ex19 (L' := [mA 1545, mI a1, mI x18, mI x19]) rfl ?_
  refine v_goto F dX11_ask_70 rfl ?_
  cases h
  exact K
theorem fX11_ask_24f_ok {w : Wd} {l : Launch} {G : Cx} {d m dd : Dt} {a1 : Int} {d' : Dt} {r : Int} {s : Int × Int} {x : ((Int × Int) ⊕ (Dt × Int))} (F : Fx w G cX11_ask RX11 4 (some .int) { frames := 3, cells := 0, slots := 0, locals := 73 }) (hX : WF dd m) (hp : PB m 1545 11) (h : fX11_ask_24f d a1 s = some x) (K : (Sum.elim (fX11_ask_24P w l G (QM w G WF (some (mI r)) d' m 0 0) m d a1) (fun q => q = (d', r))) x) : V w l WF G (QM w G WF (some (mI r)) d' m 0 0) d m 0 0 24 [mA 1545, mI a1, mI (s.1), mI (s.2)] [] := by
  obtain ⟨v2, v3⟩ := s
  unfold fX11_ask_24f at h
  dsimp only at h
  refine v_iload_n F dX11_ask_24 rfl rfl ?_
  refine v_aload_n F dX11_ask_25 rfl rfl ?_
  refine gf_X11_543 F dX11_ask_26 hp ?_
  refine v_icmp_ge F dX11_ask_29 rfl (fun hq5 => ?_) (fun hq5 => ?_)
  · rw [if_pos hq5] at h
    obtain ⟨z, hu, ez⟩ := up_some h
    clear h
    subst ez
    have h := hu
    clear hu
    refine v_aload_n F dX11_ask_73 rfl rfl ?_
    refine v_iload_n F dX11_ask_74 rfl rfl ?_
    obtain ⟨x6, hc7, h⟩ := b1_some h
    refine v_callVv (c := 11) F dX11_ask_75 cv_X11_703 rfl (PB.ob hp hX (Nat.le_of_ble_eq_true rfl)) (Nat.le_of_ble_eq_true rfl) rfl (vm_X11_isOnRoll hp hc7) rfl (rOk.of rfl) ?_
    refine v_if_eq F dX11_ask_78 rfl (fun hq8 => ?_) (fun hq8 => ?_)
    · rw [if_pos hq8] at h
      refine v_bipush F dX11_ask_85 rfl ⟨by decide, by decide⟩ ?_
      cases h
      cases (show _ = (d', r) from K)
      exact v_iret F dX11_ask_87
    · rw [if_neg hq8] at h
      refine v_iload_n F dX11_ask_81 rfl rfl ?_
      refine v_if_eq F dX11_ask_82 rfl (fun hq9 => ?_) (fun hq9 => ?_)
      · rw [if_pos hq9] at h
        refine v_aload_n F dX11_ask_88 rfl rfl ?_
        refine gf_X11_543 F dX11_ask_89 hp ?_
        refine v_sipush F dX11_ask_92 rfl ⟨by decide, by decide⟩ ?_
        refine v_icmp_ne F dX11_ask_95 rfl (fun hq10 => ?_) (fun hq10 => ?_)
        · rw [if_neg hq10] at h
          refine v_aload_n F dX11_ask_101 rfl rfl ?_
          refine v_iload_n F dX11_ask_102 rfl rfl ?_
          refine v_bipush F dX11_ask_103 rfl ⟨by decide, by decide⟩ ?_
          refine v_iconst F dX11_ask_105 ⟨by decide, by decide⟩ ?_
          obtain ⟨d11, x13, hc12, h⟩ := b2_some h
          refine v_callVv (c := 11) F dX11_ask_106 cv_X11_706 rfl (PB.ob hp hX (Nat.le_of_ble_eq_true rfl)) (Nat.le_of_ble_eq_true rfl) rfl (vm_X11_give hp hc12) rfl (rOk.of rfl) ?_
          refine v_istore_n F dX11_ask_109 rfl (Nat.le_of_ble_eq_true rfl) (L' := [mA 1545, mI a1, mI v2, mI x13]) rfl ?_
          refine v_aload_n F dX11_ask_110 rfl rfl ?_
          refine v_bipush F dX11_ask_111 rfl ⟨by decide, by decide⟩ ?_
          refine v_iload_n F dX11_ask_113 rfl rfl ?_
          refine v_iconst F dX11_ask_114 ⟨by decide, by decide⟩ ?_
          refine v_iconst F dX11_ask_115 ⟨by decide, by decide⟩ ?_
          refine v_iconst F dX11_ask_116 ⟨by decide, by decide⟩ ?_
          obtain ⟨d14, hc15, h⟩ := bd_some h
          refine v_callV0 (c := 11) F dX11_ask_117 cv_X11_22 rfl (PB.ob hp hX (Nat.le_of_ble_eq_true rfl)) (Nat.le_of_ble_eq_true rfl) rfl (vm_X11_write hp hc15) rfl (rOk.of rfl) ?_
          refine v_iload_n F dX11_ask_120 rfl rfl ?_
          cases h
          cases (show _ = (d', r) from K)
          exact v_iret F dX11_ask_121
        · rw [if_pos hq10] at h
          refine v_bipush F dX11_ask_98 rfl ⟨by decide, by decide⟩ ?_
          cases h
          cases (show _ = (d', r) from K)
          exact v_iret F dX11_ask_100
      · rw [if_neg hq9] at h
        refine v_bipush F dX11_ask_85 rfl ⟨by decide, by decide⟩ ?_
        cases h
        cases (show _ = (d', r) from K)
        exact v_iret F dX11_ask_87
  · rw [if_neg hq5] at h
    refine v_iload_n F dX11_ask_32 rfl rfl ?_
    refine v_aload_n F dX11_ask_33 rfl rfl ?_
    refine gf_X11_691 F dX11_ask_34 hp (v := 1603) rfl ?_
    refine v_iload_n F dX11_ask_37 rfl rfl ?_
    obtain ⟨hi16, h⟩ := ck_some h
    refine v_iald F dX11_ask_38 (ar_X11_83 hX hp) hi16 ?_
    refine v_iload_n F dX11_ask_39 rfl rfl ?_
    refine v_icmp_ne F dX11_ask_40 rfl (fun hq17 => ?_) (fun hq17 => ?_)
    · rw [if_neg hq17] at h
      refine v_iconst F dX11_ask_64 ⟨by decide, by decide⟩ ?_
      refine v_fgt (L' := [mA 1545, mI a1, mU, mI v3]) ⟨Or.inl rfl, Or.inl rfl, Or.inr rfl, Or.inl rfl, trivial⟩ ?_
      exact fX11_ask_65_ok F hX hp h K
    · rw [if_pos hq17] at h
      refine v_aload_n F dX11_ask_43 rfl rfl ?_
      refine gf_X11_667 F dX11_ask_44 hp (v := 1607) rfl ?_
      refine v_iload_n F dX11_ask_47 rfl rfl ?_
      refine v_zald F dX11_ask_48 (ar_X11_87 hX hp) hi16 ?_
      refine v_if_eq F dX11_ask_49 rfl (fun hq20 => ?_) (fun hq20 => ?_)
      · rw [if_pos hq20] at h
        refine v_iconst F dX11_ask_64 ⟨by decide, by decide⟩ ?_
        refine v_fgt (L' := [mA 1545, mI a1, mU, mI v3]) ⟨Or.inl rfl, Or.inl rfl, Or.inr rfl, Or.inl rfl, trivial⟩ ?_
        exact fX11_ask_65_ok F hX hp h K
      · rw [if_neg hq20] at h
        refine v_aload_n F dX11_ask_52 rfl rfl ?_
        refine v_iload_n F dX11_ask_53 rfl rfl ?_
        obtain ⟨x21, hc22, h⟩ := b1_some h
        refine v_callVv (c := 11) F dX11_ask_54 cv_X11_694 rfl (PB.ob hp hX (Nat.le_of_ble_eq_true rfl)) (Nat.le_of_ble_eq_true rfl) rfl (vm_X11_lives hp hc22) rfl (rOk.of rfl) ?_
        refine v_if_eq F dX11_ask_57 rfl (fun hq23 => ?_) (fun hq23 => ?_)
        · rw [if_pos hq23] at h
          refine v_iconst F dX11_ask_64 ⟨by decide, by decide⟩ ?_
          refine v_fgt (L' := [mA 1545, mI a1, mU, mI v3]) ⟨Or.inl rfl, Or.inl rfl, Or.inr rfl, Or.inl rfl, trivial⟩ ?_
          exact fX11_ask_65_ok F hX hp h K
        · rw [if_neg hq23] at h
          refine v_iconst F dX11_ask_60 ⟨by decide, by decide⟩ ?_
          refine v_goto F dX11_ask_61 rfl ?_
          refine v_fgt (L' := [mA 1545, mI a1, mU, mI v3]) ⟨Or.inl rfl, Or.inl rfl, Or.inr rfl, Or.inl rfl, trivial⟩ ?_
          exact fX11_ask_65_ok F hX hp h K
theorem fX11_ask_24_ok {w : Wd} {l : Launch} {G : Cx} {d m dd : Dt} {a1 v2 v3 : Int} {d' : Dt} {r : Int} {x : (Dt × Int)} (F : Fx w G cX11_ask RX11 4 (some .int) { frames := 3, cells := 0, slots := 0, locals := 73 }) (hX : WF dd m) (hp : PB m 1545 11) (h : fX11_ask_24 d a1 v2 v3 = some x) (K : (fun q => q = (d', r)) x) : V w l WF G (QM w G WF (some (mI r)) d' m 0 0) d m 0 0 24 [mA 1545, mI a1, mI v2, mI v3] [] := by
  unfold fX11_ask_24 at h
  exact loop_ok (P := fX11_ask_24P w l G (QM w G WF (some (mI r)) d' m 0 0) m d a1) (fun s x hx h1 h2 => fX11_ask_24f_ok F hX hp hx (by
    cases x with
    | inl s' => exact h1 s' rfl
    | inr z => cases h2 z rfl; exact K)) h
theorem vm_X11_ask {w : Wd} {l : Launch} {d m : Dt} {a1 : Int} {d' : Dt} {r : Int} (hp : PB m 1545 11) (h : fX11_ask d a1 = some (d', r)) : VM w l WF yX11_ask cX11_ask 4 (some .int) 3 73 0 0 d m [mA 1545, mI a1] (some (mI r)) d' m := by
  obtain ⟨x, h, K⟩ : ∃ x, fX11_ask d a1 = some x ∧ x = (d', r) := ⟨_, h, rfl⟩
  refine VM.of (L := [mA 1545, mI a1, mU, mU]) (by decide +kernel) rfl (Nat.le_of_ble_eq_true rfl) fun G F _ => v_fact fun _ hX _ _ => ?_
  unfold fX11_ask at h
  refine v_aload_n F dX11_ask_0 rfl rfl ?_
  refine v_iload_n F dX11_ask_1 rfl rfl ?_
  refine v_callVv (c := 11) F dX11_ask_2 cv_X11_110 rfl (PB.ob hp hX (Nat.le_of_ble_eq_true rfl)) (Nat.le_of_ble_eq_true rfl) rfl (vm_X11_isPerson hp) rfl (rOk.of rfl) ?_
  refine v_if_ne F dX11_ask_5 rfl (fun hq1 => ?_) (fun hq1 => ?_)
  · rw [if_neg hq1] at h
    refine v_aload_n F dX11_ask_10 rfl rfl ?_
    obtain ⟨x2, hc3, h⟩ := b1_some h
    refine v_callVv (c := 11) F dX11_ask_11 cv_X11_734 rfl (PB.ob hp hX (Nat.le_of_ble_eq_true rfl)) (Nat.le_of_ble_eq_true rfl) rfl (vm_X11_isMailShut hp hc3) rfl (rOk.of rfl) ?_
    refine v_if_eq F dX11_ask_14 rfl (fun hq4 => ?_) (fun hq4 => ?_)
    · rw [if_pos hq4] at h
      refine v_iconst F dX11_ask_20 ⟨by decide, by decide⟩ ?_
      refine v_istore_n F dX11_ask_21 rfl (Nat.le_of_ble_eq_true rfl) (L' := [mA 1545, mI a1, mI 0, mU]) rfl ?_
      refine v_iconst F dX11_ask_22 ⟨by decide, by decide⟩ ?_
      refine v_istore_n F dX11_ask_23 rfl (Nat.le_of_ble_eq_true rfl) (L' := [mA 1545, mI a1, mI 0, mI 0]) rfl ?_
      exact fX11_ask_24_ok F hX hp h K
    · rw [if_neg hq4] at h
      refine v_bipush F dX11_ask_17 rfl ⟨by decide, by decide⟩ ?_
      cases h
      cases (show _ = (d', r) from K)
      exact v_iret F dX11_ask_19
  · rw [if_pos hq1] at h
    refine v_iconst F dX11_ask_8 ⟨by decide, by decide⟩ ?_
    cases h
    cases (show _ = (d', r) from K)
    exact v_iret F dX11_ask_9
theorem fX0_arrive_111_ok {w : Wd} {l : Launch} {G : Cx} {d m dd : Dt} {a1 a2 v4 s0 s1 : Int} {d' : Dt} {r : Int} {x : (Dt × Int)} (F : Fx w G cX0_arrive RX0 5 (some .int) { frames := 4, cells := 0, slots := 0, locals := 115 }) (hX : WF dd m) (hp : PB m 1 0) (hv4 : PB m v4 14) (hs0 : PB m s0 14) (h : fX0_arrive_111 d a1 a2 v4 s0 s1 = some x) (K : (fun q => q = (d', r)) x) : V w l WF G (QM w G WF (some (mI r)) d' m 0 0) d m 0 0 111 [mA 1, mU, mI a2, mU, mA v4] [mI s1, mA s0] := by
  unfold fX0_arrive_111 at h
  obtain ⟨d20, ed20, h⟩ := sd_some h
  refine pf_X0_445 F dX0_arrive_111 hs0 ?_
  refine v_nD ed20 ?_
  refine v_aload_n F dX0_arrive_114 rfl rfl ?_
  refine v_bipush F dX0_arrive_115 rfl ⟨by decide, by decide⟩ ?_
  refine v_iload_n F dX0_arrive_117 rfl rfl ?_
  refine v_iconst F dX0_arrive_118 ⟨by decide, by decide⟩ ?_
  refine v_iconst F dX0_arrive_119 ⟨by decide, by decide⟩ ?_
  refine v_iconst F dX0_arrive_120 ⟨by decide, by decide⟩ ?_
  obtain ⟨d21, hc22, h⟩ := bd_some h
  refine v_callV0 (c := 0) F dX0_arrive_121 cv_X0_173 rfl (PB.ob hp hX (Nat.le_of_ble_eq_true rfl)) (Nat.le_of_ble_eq_true rfl) rfl (vm_X0_write hp hc22) rfl (rOk.of rfl) ?_
  refine v_aload F dX0_arrive_124 rfl ?_
  refine gf_X0_445 F dX0_arrive_126 hv4 ?_
  cases h
  cases (show _ = (d', r) from K)
  exact v_iret F dX0_arrive_129
theorem vm_X0_arrive {w : Wd} {l : Launch} {d m : Dt} {a1 a2 : Int} {d' : Dt} {r : Int} (hp : PB m 1 0) (h : fX0_arrive d a1 a2 = some (d', r)) : VM w l WF yX0_arrive cX0_arrive 5 (some .int) 4 115 0 0 d m [mA 1, mI a1, mI a2] (some (mI r)) d' m := by
  obtain ⟨x, h, K⟩ : ∃ x, fX0_arrive d a1 a2 = some x ∧ x = (d', r) := ⟨_, h, rfl⟩
  refine VM.of (L := [mA 1, mI a1, mI a2, mU, mU]) (by decide +kernel) rfl (Nat.le_of_ble_eq_true rfl) fun G F _ => v_fact fun _ hX _ _ => ?_
  unfold fX0_arrive at h
  refine v_aload_n F dX0_arrive_0 rfl rfl ?_
  refine gf_X0_160 F dX0_arrive_1 hp ?_
  obtain ⟨x1, ex1, h⟩ := lv_some h
  refine v_nI ex1 ?_
  refine v_istore_n F dX0_arrive_4 rfl (Nat.le_of_ble_eq_true rfl) (L' := [mA 1, mI a1, mI a2, mI x1, mU]) rfl ?_
  refine v_aload_n F dX0_arrive_5 rfl rfl ?_
  refine v_iconst F dX0_arrive_6 ⟨by decide, by decide⟩ ?_
  obtain ⟨d2, ed2, h⟩ := sd_some h
  refine pf_X0_160 F dX0_arrive_7 hp ?_
  refine v_nD ed2 ?_
  refine v_aload_n F dX0_arrive_10 rfl rfl ?_
  refine v_iload_n F dX0_arrive_11 rfl rfl ?_
  refine v_callVv (c := 0) F dX0_arrive_12 cv_X0_502 rfl (PB.ob hp hX (Nat.le_of_ble_eq_true rfl)) (Nat.le_of_ble_eq_true rfl) rfl (vm_X0_isIssue hp) rfl (rOk.of rfl) ?_
  refine v_if_ne F dX0_arrive_15 rfl (fun hq3 => ?_) (fun hq3 => ?_)
  · rw [if_neg hq3] at h
    refine v_aload_n F dX0_arrive_20 rfl rfl ?_
    obtain ⟨x4, hc5, h⟩ := b1_some h
    refine v_callVv (c := 0) F dX0_arrive_21 cv_X0_517 rfl (PB.ob hp hX (Nat.le_of_ble_eq_true rfl)) (Nat.le_of_ble_eq_true rfl) rfl (vm_X0_isMailing hp hc5) rfl (rOk.of rfl) ?_
    refine v_if_ne F dX0_arrive_24 rfl (fun hq6 => ?_) (fun hq6 => ?_)
    · rw [if_neg hq6] at h
      refine v_aload_n F dX0_arrive_30 rfl rfl ?_
      refine gf_X0_111 F dX0_arrive_31 hp (v := 76) rfl ?_
      refine v_iload_n F dX0_arrive_34 rfl rfl ?_
      obtain ⟨hi7, h⟩ := ck_some h
      obtain ⟨x8, ex8, h⟩ := lv_some h
      obtain ⟨hn10, h⟩ := ck_some h
      refine v_aaldN (t := 112) (c := 14) F dX0_arrive_35 (ar_X0_31 hX hp) (Nat.le_of_ble_eq_true rfl) rfl rfl rfl rfl rfl hi7 ex8 fun hr9 => ?_
      have x8p := hr9.resolve_left hn10
      refine v_astore F dX0_arrive_36 (Nat.le_of_ble_eq_true rfl) (L' := [mA 1, mI a1, mI a2, mI x1, mA x8]) rfl ?_
      refine v_aload F dX0_arrive_38 rfl ?_
      refine gf_X0_442 F dX0_arrive_40 x8p ?_
      refine v_bipush F dX0_arrive_43 rfl ⟨by decide, by decide⟩ ?_
      refine v_icmp_ne F dX0_arrive_45 rfl (fun hq11 => ?_) (fun hq11 => ?_)
      · rw [if_neg hq11] at h
        refine v_bipush F dX0_arrive_56 rfl ⟨by decide, by decide⟩ ?_
        cases h
        cases (show _ = (d', r) from K)
        exact v_iret F dX0_arrive_58
      · rw [if_pos hq11] at h
        refine v_aload F dX0_arrive_48 rfl ?_
        refine gf_X0_445 F dX0_arrive_50 x8p ?_
        refine v_if_eq F dX0_arrive_53 rfl (fun hq12 => ?_) (fun hq12 => ?_)
        · rw [if_pos hq12] at h
          refine v_iload_n F dX0_arrive_59 rfl rfl ?_
          refine v_iconst F dX0_arrive_60 ⟨by decide, by decide⟩ ?_
          refine v_iconst F dX0_arrive_61 ⟨by decide, by decide⟩ ?_
          refine v_callSv F dX0_arrive_62 cs_X0_163 rfl (vm_X0_within) rfl (rOk.of rfl) ?_
          refine v_if_eq F dX0_arrive_65 rfl (fun hq13 => ?_) (fun hq13 => ?_)
          · rw [if_pos hq13] at h
            refine v_bipush F dX0_arrive_81 rfl ⟨by decide, by decide⟩ ?_
            cases h
            cases (show _ = (d', r) from K)
            exact v_iret F dX0_arrive_83
          · rw [if_neg hq13] at h
            refine v_aload_n F dX0_arrive_68 rfl rfl ?_
            refine v_iload_n F dX0_arrive_69 rfl rfl ?_
            refine v_aload F dX0_arrive_70 rfl ?_
            refine gf_X0_462 F dX0_arrive_72 x8p ?_
            obtain ⟨x14, hc15, h⟩ := b1_some h
            refine v_callVv (c := 0) F dX0_arrive_75 cv_X0_508 rfl (PB.ob hp hX (Nat.le_of_ble_eq_true rfl)) (Nat.le_of_ble_eq_true rfl) rfl (vm_X0_isSheet hp hc15) rfl (rOk.of rfl) ?_
            refine v_if_ne F dX0_arrive_78 rfl (fun hq16 => ?_) (fun hq16 => ?_)
            · rw [if_neg hq16] at h
              refine v_aload_n F dX0_arrive_84 rfl rfl ?_
              refine gf_X0_13 F dX0_arrive_85 hp (v := 2) rfl ?_
              refine v_iconst F dX0_arrive_88 ⟨by decide, by decide⟩ ?_
              refine v_aload F dX0_arrive_89 rfl ?_
              refine gf_X0_465 F dX0_arrive_91 x8p (v := (x8 + 1)) rfl ?_
              refine v_iconst F dX0_arrive_94 ⟨by decide, by decide⟩ ?_
              refine v_iload_n F dX0_arrive_95 rfl rfl ?_
              obtain ⟨hi18, h⟩ := ck_some h
              obtain ⟨d17, ed17, h⟩ := cd_some h
              refine v_copy (t := 102) F dX0_arrive_96 ca_X0_511 (ar_X0_0 hX hp) (ar_X15_7 hX x8p) (Nat.le_of_ble_eq_true rfl) (Or.inr (Or.inl rfl)) rfl rfl hi18 rfl ?_
              refine v_nD ed17 ?_
              refine v_aload F dX0_arrive_99 rfl ?_
              refine v_iload_n F dX0_arrive_101 rfl rfl ?_
              refine v_iconst F dX0_arrive_102 ⟨by decide, by decide⟩ ?_
              refine v_icmp_ne F dX0_arrive_103 rfl (fun hq19 => ?_) (fun hq19 => ?_)
              · rw [if_neg hq19] at h
                refine v_iconst F dX0_arrive_110 ⟨by decide, by decide⟩ ?_
                refine v_fgt (L' := [mA 1, mU, mI a2, mU, mA x8]) ⟨Or.inl rfl, Or.inr rfl, Or.inl rfl, Or.inr rfl, Or.inl rfl, trivial⟩ ?_
                exact fX0_arrive_111_ok F hX hp x8p x8p h K
              · rw [if_pos hq19] at h
                refine v_iconst F dX0_arrive_106 ⟨by decide, by decide⟩ ?_
                refine v_goto F dX0_arrive_107 rfl ?_
                refine v_fgt (L' := [mA 1, mU, mI a2, mU, mA x8]) ⟨Or.inl rfl, Or.inr rfl, Or.inl rfl, Or.inr rfl, Or.inl rfl, trivial⟩ ?_
                exact fX0_arrive_111_ok F hX hp x8p x8p h K
            · rw [if_pos hq16] at h
              refine v_bipush F dX0_arrive_81 rfl ⟨by decide, by decide⟩ ?_
              cases h
              cases (show _ = (d', r) from K)
              exact v_iret F dX0_arrive_83
        · rw [if_neg hq12] at h
          refine v_bipush F dX0_arrive_56 rfl ⟨by decide, by decide⟩ ?_
          cases h
          cases (show _ = (d', r) from K)
          exact v_iret F dX0_arrive_58
    · rw [if_pos hq6] at h
      refine v_bipush F dX0_arrive_27 rfl ⟨by decide, by decide⟩ ?_
      cases h
      cases (show _ = (d', r) from K)
      exact v_iret F dX0_arrive_29
  · rw [if_pos hq3] at h
    refine v_iconst F dX0_arrive_18 ⟨by decide, by decide⟩ ?_
    cases h
    cases (show _ = (d', r) from K)
    exact v_iret F dX0_arrive_19
theorem fX11_arrive_96_ok {w : Wd} {l : Launch} {G : Cx} {d m dd : Dt} {a1 a2 s1 s2 : Int} {d' : Dt} {r : Int} {x : (Dt × Int)} (F : Fx w G cX11_arrive RX11 4 (some .int) { frames := 3, cells := 0, slots := 0, locals := 73 }) (hX : WF dd m) (hp : PB m 1545 11) (h : fX11_arrive_96 d a1 a2 s1 s2 = some x) (K : (fun q => q = (d', r)) x) : V w l WF G (QM w G WF (some (mI r)) d' m 0 0) d m 0 0 96 [mA 1545, mI a1, mI a2, mU] [mI s2, mI s1, mA 1605] := by
  unfold fX11_arrive_96 at h
  obtain ⟨hi17, h⟩ := ck_some h
  obtain ⟨d18, ed18, h⟩ := sd_some h
  refine v_iast F dX11_arrive_96 (ar_X11_85 hX hp) hi17 ?_
  refine v_nD ed18 ?_
  refine v_aload_n F dX11_arrive_97 rfl rfl ?_
  refine v_bipush F dX11_arrive_98 rfl ⟨by decide, by decide⟩ ?_
  refine v_iload_n F dX11_arrive_100 rfl rfl ?_
  refine v_iconst F dX11_arrive_101 ⟨by decide, by decide⟩ ?_
  refine v_iconst F dX11_arrive_102 ⟨by decide, by decide⟩ ?_
  refine v_iconst F dX11_arrive_103 ⟨by decide, by decide⟩ ?_
  obtain ⟨d19, hc20, h⟩ := bd_some h
  refine v_callV0 (c := 11) F dX11_arrive_104 cv_X11_22 rfl (PB.ob hp hX (Nat.le_of_ble_eq_true rfl)) (Nat.le_of_ble_eq_true rfl) rfl (vm_X11_write hp hc20) rfl (rOk.of rfl) ?_
  refine v_aload_n F dX11_arrive_107 rfl rfl ?_
  refine gf_X11_658 F dX11_arrive_108 hp (v := 1605) rfl ?_
  refine v_iload_n F dX11_arrive_111 rfl rfl ?_
  obtain ⟨hi21, h⟩ := ck_some h
  refine v_iald F dX11_arrive_112 (ar_X11_85 hX hp) hi21 ?_
  cases h
  cases (show _ = (d', r) from K)
  exact v_iret F dX11_arrive_113
theorem vm_X11_arrive {w : Wd} {l : Launch} {d m : Dt} {a1 a2 : Int} {d' : Dt} {r : Int} (hp : PB m 1545 11) (h : fX11_arrive d a1 a2 = some (d', r)) : VM w l WF yX11_arrive cX11_arrive 4 (some .int) 3 73 0 0 d m [mA 1545, mI a1, mI a2] (some (mI r)) d' m := by
  obtain ⟨x, h, K⟩ : ∃ x, fX11_arrive d a1 a2 = some x ∧ x = (d', r) := ⟨_, h, rfl⟩
  refine VM.of (L := [mA 1545, mI a1, mI a2, mU]) (by decide +kernel) rfl (Nat.le_of_ble_eq_true rfl) fun G F _ => v_fact fun _ hX _ _ => ?_
  unfold fX11_arrive at h
  refine v_aload_n F dX11_arrive_0 rfl rfl ?_
  refine gf_X11_5 F dX11_arrive_1 hp ?_
  obtain ⟨x1, ex1, h⟩ := lv_some h
  refine v_nI ex1 ?_
  refine v_istore_n F dX11_arrive_4 rfl (Nat.le_of_ble_eq_true rfl) (L' := [mA 1545, mI a1, mI a2, mI x1]) rfl ?_
  refine v_aload_n F dX11_arrive_5 rfl rfl ?_
  refine v_iconst F dX11_arrive_6 ⟨by decide, by decide⟩ ?_
  obtain ⟨d2, ed2, h⟩ := sd_some h
  refine pf_X11_5 F dX11_arrive_7 hp ?_
  refine v_nD ed2 ?_
  refine v_aload_n F dX11_arrive_10 rfl rfl ?_
  refine v_iload_n F dX11_arrive_11 rfl rfl ?_
  refine v_callVv (c := 11) F dX11_arrive_12 cv_X11_710 rfl (PB.ob hp hX (Nat.le_of_ble_eq_true rfl)) (Nat.le_of_ble_eq_true rfl) rfl (vm_X11_isIssue hp) rfl (rOk.of rfl) ?_
  refine v_if_ne F dX11_arrive_15 rfl (fun hq3 => ?_) (fun hq3 => ?_)
  · rw [if_neg hq3] at h
    refine v_aload_n F dX11_arrive_20 rfl rfl ?_
    obtain ⟨x4, hc5, h⟩ := b1_some h
    refine v_callVv (c := 11) F dX11_arrive_21 cv_X11_734 rfl (PB.ob hp hX (Nat.le_of_ble_eq_true rfl)) (Nat.le_of_ble_eq_true rfl) rfl (vm_X11_isMailShut hp hc5) rfl (rOk.of rfl) ?_
    refine v_if_eq F dX11_arrive_24 rfl (fun hq6 => ?_) (fun hq6 => ?_)
    · rw [if_pos hq6] at h
      refine v_aload_n F dX11_arrive_30 rfl rfl ?_
      refine gf_X11_661 F dX11_arrive_31 hp (v := 1604) rfl ?_
      refine v_iload_n F dX11_arrive_34 rfl rfl ?_
      obtain ⟨hi7, h⟩ := ck_some h
      refine v_iald F dX11_arrive_35 (ar_X11_84 hX hp) hi7 ?_
      refine v_bipush F dX11_arrive_36 rfl ⟨by decide, by decide⟩ ?_
      refine v_icmp_ne F dX11_arrive_38 rfl (fun hq8 => ?_) (fun hq8 => ?_)
      · rw [if_neg hq8] at h
        refine v_bipush F dX11_arrive_50 rfl ⟨by decide, by decide⟩ ?_
        cases h
        cases (show _ = (d', r) from K)
        exact v_iret F dX11_arrive_52
      · rw [if_pos hq8] at h
        refine v_aload_n F dX11_arrive_41 rfl rfl ?_
        refine gf_X11_658 F dX11_arrive_42 hp (v := 1605) rfl ?_
        refine v_iload_n F dX11_arrive_45 rfl rfl ?_
        refine v_iald F dX11_arrive_46 (ar_X11_85 hX hp) hi7 ?_
        refine v_if_eq F dX11_arrive_47 rfl (fun hq9 => ?_) (fun hq9 => ?_)
        · rw [if_pos hq9] at h
          refine v_iload_n F dX11_arrive_53 rfl rfl ?_
          refine v_i2l F dX11_arrive_54 ?_
          refine v_lconst0 F dX11_arrive_55 ?_
          refine v_lconst1 F dX11_arrive_56 ?_
          refine v_callSv F dX11_arrive_57 cs_X11_13 rfl (vm_X11_in) rfl (rOk.of rfl) ?_
          refine v_if_eq F dX11_arrive_60 rfl (fun hq10 => ?_) (fun hq10 => ?_)
          · rw [if_pos hq10] at h
            refine v_bipush F dX11_arrive_72 rfl ⟨by decide, by decide⟩ ?_
            cases h
            cases (show _ = (d', r) from K)
            exact v_iret F dX11_arrive_74
          · rw [if_neg hq10] at h
            refine v_aload_n F dX11_arrive_63 rfl rfl ?_
            refine v_iload_n F dX11_arrive_64 rfl rfl ?_
            refine v_iload_n F dX11_arrive_65 rfl rfl ?_
            obtain ⟨x11, hc12, h⟩ := b1_some h
            refine v_callVv (c := 11) F dX11_arrive_66 cv_X11_728 rfl (PB.ob hp hX (Nat.le_of_ble_eq_true rfl)) (Nat.le_of_ble_eq_true rfl) rfl (vm_X11_areMarks hp hc12) rfl (rOk.of rfl) ?_
            refine v_if_ne F dX11_arrive_69 rfl (fun hq13 => ?_) (fun hq13 => ?_)
            · rw [if_neg hq13] at h
              refine v_aload_n F dX11_arrive_75 rfl rfl ?_
              refine v_iload_n F dX11_arrive_76 rfl rfl ?_
              refine v_iload_n F dX11_arrive_77 rfl rfl ?_
              obtain ⟨d14, hc15, h⟩ := bd_some h
              refine v_callV0 (c := 11) F dX11_arrive_78 cv_X11_731 rfl (PB.ob hp hX (Nat.le_of_ble_eq_true rfl)) (Nat.le_of_ble_eq_true rfl) rfl (vm_X11_keepMarks hp hc15) rfl (rOk.of rfl) ?_
              refine v_aload_n F dX11_arrive_81 rfl rfl ?_
              refine gf_X11_658 F dX11_arrive_82 hp (v := 1605) rfl ?_
              refine v_iload_n F dX11_arrive_85 rfl rfl ?_
              refine v_iload_n F dX11_arrive_86 rfl rfl ?_
              refine v_iconst F dX11_arrive_87 ⟨by decide, by decide⟩ ?_
              refine v_icmp_ne F dX11_arrive_88 rfl (fun hq16 => ?_) (fun hq16 => ?_)
              · rw [if_neg hq16] at h
                refine v_iconst F dX11_arrive_95 ⟨by decide, by decide⟩ ?_
                refine v_fgt (L' := [mA 1545, mI a1, mI a2, mU]) ⟨Or.inl rfl, Or.inl rfl, Or.inl rfl, Or.inr rfl, trivial⟩ ?_
                exact fX11_arrive_96_ok F hX hp h K
              · rw [if_pos hq16] at h
                refine v_iconst F dX11_arrive_91 ⟨by decide, by decide⟩ ?_
                refine v_goto F dX11_arrive_92 rfl ?_
                refine v_fgt (L' := [mA 1545, mI a1, mI a2, mU]) ⟨Or.inl rfl, Or.inl rfl, Or.inl rfl, Or.inr rfl, trivial⟩ ?_
                exact fX11_arrive_96_ok F hX hp h K
            · rw [if_pos hq13] at h
              refine v_bipush F dX11_arrive_72 rfl ⟨by decide, by decide⟩ ?_
              cases h
              cases (show _ = (d', r) from K)
              exact v_iret F dX11_arrive_74
        · rw [if_neg hq9] at h
          refine v_bipush F dX11_arrive_50 rfl ⟨by decide, by decide⟩ ?_
          cases h
          cases (show _ = (d', r) from K)
          exact v_iret F dX11_arrive_52
    · rw [if_neg hq6] at h
      refine v_bipush F dX11_arrive_27 rfl ⟨by decide, by decide⟩ ?_
      cases h
      cases (show _ = (d', r) from K)
      exact v_iret F dX11_arrive_29
  · rw [if_pos hq3] at h
    refine v_iconst F dX11_arrive_18 ⟨by decide, by decide⟩ ?_
    cases h
    cases (show _ = (d', r) from K)
    exact v_iret F dX11_arrive_19
def fX0_open_45P (w : Wd) (l : Launch) (G : Cx) (Q : State → Prop) (m : Dt) (d : Dt) (s : Int × Int) : Prop := V w l WF G Q d m 0 0 45 [mA 1, mI (s.1), mI (s.2)] []
def fX0_open_104P (w : Wd) (l : Launch) (G : Cx) (Q : State → Prop) (m : Dt) (v1 : Int) (s : Dt × Int) : Prop := V w l WF G Q s.1 m 0 0 104 [mA 1, mI v1, mI (s.2)] []
theorem fX0_open_104f_ok {w : Wd} {l : Launch} {G : Cx} {m dd : Dt} {v1 : Int} {d' : Dt} {r : Int} {s : Dt × Int} {x : ((Dt × Int) ⊕ (Dt × Int))} (F : Fx w G cX0_open RX0 3 (some .int) { frames := 4, cells := 0, slots := 0, locals := 115 }) (hX : WF dd m) (hp : PB m 1 0) (h : fX0_open_104f v1 s = some x) (K : (Sum.elim (fX0_open_104P w l G (QM w G WF (some (mI r)) d' m 0 0) m v1) (fun q => q = (d', r))) x) : V w l WF G (QM w G WF (some (mI r)) d' m 0 0) s.1 m 0 0 104 [mA 1, mI v1, mI (s.2)] [] := by
  obtain ⟨d, v2⟩ := s
  unfold fX0_open_104f at h
  dsimp only at h
  refine v_iload_n F dX0_open_104 rfl rfl ?_
  refine v_aload_n F dX0_open_105 rfl rfl ?_
  refine gf_X0_277 F dX0_open_106 hp ?_
  refine v_icmp_ge F dX0_open_109 rfl (fun hq9 => ?_) (fun hq9 => ?_)
  · rw [if_pos hq9] at h
    obtain ⟨z, hu, ez⟩ := up_some h
    clear h
    subst ez
    have h := hu
    clear hu
    refine v_aload_n F dX0_open_155 rfl rfl ?_
    refine v_bipush F dX0_open_156 rfl ⟨by decide, by decide⟩ ?_
    refine v_iconst F dX0_open_158 ⟨by decide, by decide⟩ ?_
    refine v_iconst F dX0_open_159 ⟨by decide, by decide⟩ ?_
    refine v_iconst F dX0_open_160 ⟨by decide, by decide⟩ ?_
    refine v_iconst F dX0_open_161 ⟨by decide, by decide⟩ ?_
    obtain ⟨d10, hc11, h⟩ := bd_some h
    refine v_callV0 (c := 0) F dX0_open_162 cv_X0_173 rfl (PB.ob hp hX (Nat.le_of_ble_eq_true rfl)) (Nat.le_of_ble_eq_true rfl) rfl (vm_X0_write hp hc11) rfl (rOk.of rfl) ?_
    refine v_iload_n F dX0_open_165 rfl rfl ?_
    cases h
    cases (show _ = (d', r) from K)
    exact v_iret F dX0_open_166
  · rw [if_neg hq9] at h
    refine v_aload_n F dX0_open_112 rfl rfl ?_
    refine gf_X0_111 F dX0_open_113 hp (v := 76) rfl ?_
    refine v_iload_n F dX0_open_116 rfl rfl ?_
    obtain ⟨hi12, h⟩ := ck_some h
    obtain ⟨x13, ex13, h⟩ := lv_some h
    obtain ⟨hn15, h⟩ := ck_some h
    refine v_aaldN (t := 112) (c := 14) F dX0_open_117 (ar_X0_31 hX hp) (Nat.le_of_ble_eq_true rfl) rfl rfl rfl rfl rfl hi12 ex13 fun hr14 => ?_
    have x13p := hr14.resolve_left hn15
    refine gf_X0_442 F dX0_open_118 x13p ?_
    refine v_bipush F dX0_open_121 rfl ⟨by decide, by decide⟩ ?_
    refine v_icmp_ne F dX0_open_123 rfl (fun hq16 => ?_) (fun hq16 => ?_)
    · rw [if_neg hq16] at h
      obtain ⟨x17, ex17, h⟩ := lv_some h
      refine v_iincN F dX0_open_149 (Nat.le_of_ble_eq_true rfl) rfl ex17 (L' := [mA 1, mI v1, mI x17]) rfl ?_
      refine v_goto F dX0_open_152 rfl ?_
      cases h
      exact K
    · rw [if_pos hq16] at h
      refine v_aload_n F dX0_open_126 rfl rfl ?_
      refine gf_X0_111 F dX0_open_127 hp (v := 76) rfl ?_
      refine v_iload_n F dX0_open_130 rfl rfl ?_
      obtain ⟨x18, ex18, h⟩ := lv_some h
      obtain ⟨hn20, h⟩ := ck_some h
      refine v_aaldN (t := 112) (c := 14) F dX0_open_131 (ar_X0_31 hX hp) (Nat.le_of_ble_eq_true rfl) rfl rfl rfl rfl rfl hi12 ex18 fun hr19 => ?_
      have x18p := hr19.resolve_left hn20
      refine gf_X0_445 F dX0_open_132 x18p ?_
      refine v_iconst F dX0_open_135 ⟨by decide, by decide⟩ ?_
      refine v_icmp_ne F dX0_open_136 rfl (fun hq21 => ?_) (fun hq21 => ?_)
      · rw [if_neg hq21] at h
        obtain ⟨x22, ex22, h⟩ := lv_some h
        refine v_iincN F dX0_open_149 (Nat.le_of_ble_eq_true rfl) rfl ex22 (L' := [mA 1, mI v1, mI x22]) rfl ?_
        refine v_goto F dX0_open_152 rfl ?_
        cases h
        exact K
      · rw [if_pos hq21] at h
        refine v_aload_n F dX0_open_139 rfl rfl ?_
        refine v_aload_n F dX0_open_140 rfl rfl ?_
        refine gf_X0_111 F dX0_open_141 hp (v := 76) rfl ?_
        refine v_iload_n F dX0_open_144 rfl rfl ?_
        obtain ⟨x23, ex23, h⟩ := lv_some h
        obtain ⟨hn25, h⟩ := ck_some h
        refine v_aaldN (t := 112) (c := 14) F dX0_open_145 (ar_X0_31 hX hp) (Nat.le_of_ble_eq_true rfl) rfl rfl rfl rfl rfl hi12 ex23 fun hr24 => ?_
        have x23p := hr24.resolve_left hn25
        obtain ⟨d26, hc27, h⟩ := bd_some h
        refine v_callV0 (c := 0) F dX0_open_146 cv_X0_482 rfl (PB.ob hp hX (Nat.le_of_ble_eq_true rfl)) (Nat.le_of_ble_eq_true rfl) rfl (vm_X0_intoBox hp x23p hc27) rfl (rOk.of rfl) ?_
        obtain ⟨x28, ex28, h⟩ := lv_some h
        refine v_iincN F dX0_open_149 (Nat.le_of_ble_eq_true rfl) rfl ex28 (L' := [mA 1, mI v1, mI x28]) rfl ?_
        refine v_goto F dX0_open_152 rfl ?_
        cases h
        exact K
theorem fX0_open_104_ok {w : Wd} {l : Launch} {G : Cx} {d m dd : Dt} {v1 v2 : Int} {d' : Dt} {r : Int} {x : (Dt × Int)} (F : Fx w G cX0_open RX0 3 (some .int) { frames := 4, cells := 0, slots := 0, locals := 115 }) (hX : WF dd m) (hp : PB m 1 0) (h : fX0_open_104 d v1 v2 = some x) (K : (fun q => q = (d', r)) x) : V w l WF G (QM w G WF (some (mI r)) d' m 0 0) d m 0 0 104 [mA 1, mI v1, mI v2] [] := by
  unfold fX0_open_104 at h
  exact loop_ok (P := fX0_open_104P w l G (QM w G WF (some (mI r)) d' m 0 0) m v1) (fun s x hx h1 h2 => fX0_open_104f_ok F hX hp hx (by
    cases x with
    | inl s' => exact h1 s' rfl
    | inr z => cases h2 z rfl; exact K)) h
theorem fX0_open_86_ok {w : Wd} {l : Launch} {G : Cx} {d m dd : Dt} {v2 s0 s1 : Int} {d' : Dt} {r : Int} {x : ((Int × Int) ⊕ (Dt × Int))} (F : Fx w G cX0_open RX0 3 (some .int) { frames := 4, cells := 0, slots := 0, locals := 115 }) (hX : WF dd m) (hp : PB m 1 0) (h : fX0_open_86 d v2 s0 s1 = some x) (K : (Sum.elim (fX0_open_45P w l G (QM w G WF (some (mI r)) d' m 0 0) m d) (fun q => q = (d', r))) x) : V w l WF G (QM w G WF (some (mI r)) d' m 0 0) d m 0 0 86 [mA 1, mU, mI v2] [mI s1, mI s0] := by
  unfold fX0_open_86 at h
  refine v_iadd F dX0_open_86 ?_
  obtain ⟨x34, ex34, h⟩ := lv_some h
  refine v_nI ex34 ?_
  refine v_istore_n F dX0_open_87 rfl (Nat.le_of_ble_eq_true rfl) (L' := [mA 1, mI x34, mI v2]) rfl ?_
  obtain ⟨x35, ex35, h⟩ := lv_some h
  refine v_iincN F dX0_open_88 (Nat.le_of_ble_eq_true rfl) rfl ex35 (L' := [mA 1, mI x34, mI x35]) rfl ?_
  refine v_goto F dX0_open_91 rfl ?_
  cases h
  exact K
theorem fX0_open_45f_ok {w : Wd} {l : Launch} {G : Cx} {d m dd : Dt} {d' : Dt} {r : Int} {s : Int × Int} {x : ((Int × Int) ⊕ (Dt × Int))} (F : Fx w G cX0_open RX0 3 (some .int) { frames := 4, cells := 0, slots := 0, locals := 115 }) (hX : WF dd m) (hp : PB m 1 0) (h : fX0_open_45f d s = some x) (K : (Sum.elim (fX0_open_45P w l G (QM w G WF (some (mI r)) d' m 0 0) m d) (fun q => q = (d', r))) x) : V w l WF G (QM w G WF (some (mI r)) d' m 0 0) d m 0 0 45 [mA 1, mI (s.1), mI (s.2)] [] := by
  obtain ⟨v1, v2⟩ := s
  unfold fX0_open_45f at h
  dsimp only at h
  refine v_iload_n F dX0_open_45 rfl rfl ?_
  refine v_aload_n F dX0_open_46 rfl rfl ?_
  refine gf_X0_277 F dX0_open_47 hp ?_
  refine v_icmp_ge F dX0_open_50 rfl (fun hq7 => ?_) (fun hq7 => ?_)
  · rw [if_pos hq7] at h
    obtain ⟨z, hu, ez⟩ := up_some h
    clear h
    subst ez
    have h := hu
    clear hu
    refine v_iload_n F dX0_open_94 rfl rfl ?_
    refine v_iconst F dX0_open_95 ⟨by decide, by decide⟩ ?_
    refine v_icmp_ge F dX0_open_96 rfl (fun hq8 => ?_) (fun hq8 => ?_)
    · rw [if_pos hq8] at h
      refine v_iconst F dX0_open_102 ⟨by decide, by decide⟩ ?_
      refine v_istore_n F dX0_open_103 rfl (Nat.le_of_ble_eq_true rfl) (L' := [mA 1, mI v1, mI 0]) rfl ?_
      exact fX0_open_104_ok F hX hp h K
    · rw [if_neg hq8] at h
      refine v_bipush F dX0_open_99 rfl ⟨by decide, by decide⟩ ?_
      cases h
      cases (show _ = (d', r) from K)
      exact v_iret F dX0_open_101
  · rw [if_neg hq7] at h
    refine v_iload_n F dX0_open_53 rfl rfl ?_
    refine v_aload_n F dX0_open_54 rfl rfl ?_
    refine gf_X0_111 F dX0_open_55 hp (v := 76) rfl ?_
    refine v_iload_n F dX0_open_58 rfl rfl ?_
    obtain ⟨hi29, h⟩ := ck_some h
    obtain ⟨x30, ex30, h⟩ := lv_some h
    obtain ⟨hn32, h⟩ := ck_some h
    refine v_aaldN (t := 112) (c := 14) F dX0_open_59 (ar_X0_31 hX hp) (Nat.le_of_ble_eq_true rfl) rfl rfl rfl rfl rfl hi29 ex30 fun hr31 => ?_
    have x30p := hr31.resolve_left hn32
    refine gf_X0_442 F dX0_open_60 x30p ?_
    refine v_bipush F dX0_open_63 rfl ⟨by decide, by decide⟩ ?_
    refine v_icmp_ne F dX0_open_65 rfl (fun hq33 => ?_) (fun hq33 => ?_)
    · rw [if_neg hq33] at h
      refine v_iconst F dX0_open_85 ⟨by decide, by decide⟩ ?_
      refine v_fgt (L' := [mA 1, mU, mI v2]) ⟨Or.inl rfl, Or.inr rfl, Or.inl rfl, trivial⟩ ?_
      exact fX0_open_86_ok F hX hp h K
    · rw [if_pos hq33] at h
      refine v_aload_n F dX0_open_68 rfl rfl ?_
      refine gf_X0_111 F dX0_open_69 hp (v := 76) rfl ?_
      refine v_iload_n F dX0_open_72 rfl rfl ?_
      obtain ⟨x36, ex36, h⟩ := lv_some h
      obtain ⟨hn38, h⟩ := ck_some h
      refine v_aaldN (t := 112) (c := 14) F dX0_open_73 (ar_X0_31 hX hp) (Nat.le_of_ble_eq_true rfl) rfl rfl rfl rfl rfl hi29 ex36 fun hr37 => ?_
      have x36p := hr37.resolve_left hn38
      refine gf_X0_445 F dX0_open_74 x36p ?_
      refine v_iconst F dX0_open_77 ⟨by decide, by decide⟩ ?_
      refine v_icmp_ne F dX0_open_78 rfl (fun hq39 => ?_) (fun hq39 => ?_)
      · rw [if_neg hq39] at h
        refine v_iconst F dX0_open_85 ⟨by decide, by decide⟩ ?_
        refine v_fgt (L' := [mA 1, mU, mI v2]) ⟨Or.inl rfl, Or.inr rfl, Or.inl rfl, trivial⟩ ?_
        exact fX0_open_86_ok F hX hp h K
      · rw [if_pos hq39] at h
        refine v_iconst F dX0_open_81 ⟨by decide, by decide⟩ ?_
        refine v_goto F dX0_open_82 rfl ?_
        refine v_fgt (L' := [mA 1, mU, mI v2]) ⟨Or.inl rfl, Or.inr rfl, Or.inl rfl, trivial⟩ ?_
        exact fX0_open_86_ok F hX hp h K
theorem fX0_open_45_ok {w : Wd} {l : Launch} {G : Cx} {d m dd : Dt} {v1 v2 : Int} {d' : Dt} {r : Int} {x : (Dt × Int)} (F : Fx w G cX0_open RX0 3 (some .int) { frames := 4, cells := 0, slots := 0, locals := 115 }) (hX : WF dd m) (hp : PB m 1 0) (h : fX0_open_45 d v1 v2 = some x) (K : (fun q => q = (d', r)) x) : V w l WF G (QM w G WF (some (mI r)) d' m 0 0) d m 0 0 45 [mA 1, mI v1, mI v2] [] := by
  unfold fX0_open_45 at h
  exact loop_ok (P := fX0_open_45P w l G (QM w G WF (some (mI r)) d' m 0 0) m d) (fun s x hx h1 h2 => fX0_open_45f_ok F hX hp hx (by
    cases x with
    | inl s' => exact h1 s' rfl
    | inr z => cases h2 z rfl; exact K)) h
theorem vm_X0_open {w : Wd} {l : Launch} {d m : Dt} {d' : Dt} {r : Int} (hp : PB m 1 0) (h : fX0_open d = some (d', r)) : VM w l WF yX0_open cX0_open 3 (some .int) 4 115 0 0 d m [mA 1] (some (mI r)) d' m := by
  obtain ⟨x, h, K⟩ : ∃ x, fX0_open d = some x ∧ x = (d', r) := ⟨_, h, rfl⟩
  refine VM.of (L := [mA 1, mU, mU]) (by decide +kernel) rfl (Nat.le_of_ble_eq_true rfl) fun G F _ => v_fact fun _ hX _ _ => ?_
  unfold fX0_open at h
  refine v_aload_n F dX0_open_0 rfl rfl ?_
  refine gf_X0_237 F dX0_open_1 hp ?_
  refine v_if_ne F dX0_open_4 rfl (fun hq1 => ?_) (fun hq1 => ?_)
  · rw [if_neg hq1] at h
    refine v_aload_n F dX0_open_9 rfl rfl ?_
    refine gf_X0_167 F dX0_open_10 hp ?_
    refine v_aload_n F dX0_open_13 rfl rfl ?_
    obtain ⟨x2, ex2, h⟩ := lv_some h
    obtain ⟨hn4, h⟩ := ck_some h
    refine gf_X0_42 F dX0_open_14 hp ex2 fun hr3 => ?_
    have x2p := hr3.resolve_left hn4
    refine gf_X0_293 F dX0_open_17 x2p (v := (x2 + 1)) rfl ?_
    refine v_iconst F dX0_open_20 ⟨by decide, by decide⟩ ?_
    refine v_iald F dX0_open_21 (ar_X4_0 hX x2p) ⟨by decide, by decide⟩ ?_
    refine v_icmp_lt F dX0_open_22 rfl (fun hq5 => ?_) (fun hq5 => ?_)
    · rw [if_pos hq5] at h
      refine v_bipush F dX0_open_38 rfl ⟨by decide, by decide⟩ ?_
      cases h
      cases (show _ = (d', r) from K)
      exact v_iret F dX0_open_40
    · rw [if_neg hq5] at h
      refine v_aload_n F dX0_open_25 rfl rfl ?_
      refine gf_X0_120 F dX0_open_26 hp (v := 78) rfl ?_
      refine v_bipush F dX0_open_29 rfl ⟨by decide, by decide⟩ ?_
      refine v_aaldF (c := 0) (k := 34) F dX0_open_31 hp (Nat.le_of_ble_eq_true rfl) (Nat.le_of_ble_eq_true rfl) (by decide) (by decide) rfl (ar_X0_34 hX hp) (Nat.le_of_ble_eq_true rfl) rfl rfl rfl rfl ⟨by decide, by decide⟩ (v := 1421) (by show 1 + 676 + 124 * 6 = _; omega) ?_
      refine gf_X0_436 F dX0_open_32 (ae_X0_34 (i := 6) hX hp ⟨by decide, by decide⟩ (v := 1421) (by omega)) ?_
      refine v_if_eq F dX0_open_35 rfl (fun hq6 => ?_) (fun hq6 => ?_)
      · rw [if_pos hq6] at h
        refine v_iconst F dX0_open_41 ⟨by decide, by decide⟩ ?_
        refine v_istore_n F dX0_open_42 rfl (Nat.le_of_ble_eq_true rfl) (L' := [mA 1, mI 0, mU]) rfl ?_
        refine v_iconst F dX0_open_43 ⟨by decide, by decide⟩ ?_
        refine v_istore_n F dX0_open_44 rfl (Nat.le_of_ble_eq_true rfl) (L' := [mA 1, mI 0, mI 0]) rfl ?_
        exact fX0_open_45_ok F hX hp h K
      · rw [if_neg hq6] at h
        refine v_bipush F dX0_open_38 rfl ⟨by decide, by decide⟩ ?_
        cases h
        cases (show _ = (d', r) from K)
        exact v_iret F dX0_open_40
  · rw [if_pos hq1] at h
    refine v_iconst F dX0_open_7 ⟨by decide, by decide⟩ ?_
    cases h
    cases (show _ = (d', r) from K)
    exact v_iret F dX0_open_8
def fX11_open_38P (w : Wd) (l : Launch) (G : Cx) (Q : State → Prop) (m : Dt) (d : Dt) (s : Int × Int) : Prop := V w l WF G Q d m 0 0 38 [mA 1545, mI (s.1), mI (s.2)] []
def fX11_open_91P (w : Wd) (l : Launch) (G : Cx) (Q : State → Prop) (m : Dt) (v1 : Int) (s : Dt × Int) : Prop := V w l WF G Q s.1 m 0 0 91 [mA 1545, mI v1, mI (s.2)] []
theorem fX11_open_91f_ok {w : Wd} {l : Launch} {G : Cx} {m dd : Dt} {v1 : Int} {d' : Dt} {r : Int} {s : Dt × Int} {x : ((Dt × Int) ⊕ (Dt × Int))} (F : Fx w G cX11_open RX11 3 (some .int) { frames := 3, cells := 0, slots := 0, locals := 73 }) (hX : WF dd m) (hp : PB m 1545 11) (h : fX11_open_91f v1 s = some x) (K : (Sum.elim (fX11_open_91P w l G (QM w G WF (some (mI r)) d' m 0 0) m v1) (fun q => q = (d', r))) x) : V w l WF G (QM w G WF (some (mI r)) d' m 0 0) s.1 m 0 0 91 [mA 1545, mI v1, mI (s.2)] [] := by
  obtain ⟨d, v2⟩ := s
  unfold fX11_open_91f at h
  dsimp only at h
  refine v_iload_n F dX11_open_91 rfl rfl ?_
  refine v_aload_n F dX11_open_92 rfl rfl ?_
  refine gf_X11_543 F dX11_open_93 hp ?_
  refine v_icmp_ge F dX11_open_96 rfl (fun hq8 => ?_) (fun hq8 => ?_)
  · rw [if_pos hq8] at h
    obtain ⟨z, hu, ez⟩ := up_some h
    clear h
    subst ez
    have h := hu
    clear hu
    refine v_aload_n F dX11_open_133 rfl rfl ?_
    refine v_bipush F dX11_open_134 rfl ⟨by decide, by decide⟩ ?_
    refine v_iconst F dX11_open_136 ⟨by decide, by decide⟩ ?_
    refine v_iconst F dX11_open_137 ⟨by decide, by decide⟩ ?_
    refine v_iconst F dX11_open_138 ⟨by decide, by decide⟩ ?_
    refine v_iconst F dX11_open_139 ⟨by decide, by decide⟩ ?_
    obtain ⟨d9, hc10, h⟩ := bd_some h
    refine v_callV0 (c := 11) F dX11_open_140 cv_X11_22 rfl (PB.ob hp hX (Nat.le_of_ble_eq_true rfl)) (Nat.le_of_ble_eq_true rfl) rfl (vm_X11_write hp hc10) rfl (rOk.of rfl) ?_
    refine v_iload_n F dX11_open_143 rfl rfl ?_
    cases h
    cases (show _ = (d', r) from K)
    exact v_iret F dX11_open_144
  · rw [if_neg hq8] at h
    refine v_aload_n F dX11_open_99 rfl rfl ?_
    refine gf_X11_661 F dX11_open_100 hp (v := 1604) rfl ?_
    refine v_iload_n F dX11_open_103 rfl rfl ?_
    obtain ⟨hi11, h⟩ := ck_some h
    refine v_iald F dX11_open_104 (ar_X11_84 hX hp) hi11 ?_
    refine v_bipush F dX11_open_105 rfl ⟨by decide, by decide⟩ ?_
    refine v_icmp_ne F dX11_open_107 rfl (fun hq12 => ?_) (fun hq12 => ?_)
    · rw [if_neg hq12] at h
      obtain ⟨x13, ex13, h⟩ := lv_some h
      refine v_iincN F dX11_open_127 (Nat.le_of_ble_eq_true rfl) rfl ex13 (L' := [mA 1545, mI v1, mI x13]) rfl ?_
      refine v_goto F dX11_open_130 rfl ?_
      cases h
      exact K
    · rw [if_pos hq12] at h
      refine v_aload_n F dX11_open_110 rfl rfl ?_
      refine gf_X11_658 F dX11_open_111 hp (v := 1605) rfl ?_
      refine v_iload_n F dX11_open_114 rfl rfl ?_
      refine v_iald F dX11_open_115 (ar_X11_85 hX hp) hi11 ?_
      refine v_iconst F dX11_open_116 ⟨by decide, by decide⟩ ?_
      refine v_icmp_ne F dX11_open_117 rfl (fun hq14 => ?_) (fun hq14 => ?_)
      · rw [if_neg hq14] at h
        obtain ⟨x15, ex15, h⟩ := lv_some h
        refine v_iincN F dX11_open_127 (Nat.le_of_ble_eq_true rfl) rfl ex15 (L' := [mA 1545, mI v1, mI x15]) rfl ?_
        refine v_goto F dX11_open_130 rfl ?_
        cases h
        exact K
      · rw [if_pos hq14] at h
        refine v_aload_n F dX11_open_120 rfl rfl ?_
        refine v_iload_n F dX11_open_121 rfl rfl ?_
        refine v_bipush F dX11_open_122 rfl ⟨by decide, by decide⟩ ?_
        obtain ⟨d16, hc17, h⟩ := bd_some h
        refine v_callV0 (c := 11) F dX11_open_124 cv_X11_688 rfl (PB.ob hp hX (Nat.le_of_ble_eq_true rfl)) (Nat.le_of_ble_eq_true rfl) rfl (vm_X11_intoBox hp hc17) rfl (rOk.of rfl) ?_
        obtain ⟨x18, ex18, h⟩ := lv_some h
        refine v_iincN F dX11_open_127 (Nat.le_of_ble_eq_true rfl) rfl ex18 (L' := [mA 1545, mI v1, mI x18]) rfl ?_
        refine v_goto F dX11_open_130 rfl ?_
        cases h
        exact K
theorem fX11_open_91_ok {w : Wd} {l : Launch} {G : Cx} {d m dd : Dt} {v1 v2 : Int} {d' : Dt} {r : Int} {x : (Dt × Int)} (F : Fx w G cX11_open RX11 3 (some .int) { frames := 3, cells := 0, slots := 0, locals := 73 }) (hX : WF dd m) (hp : PB m 1545 11) (h : fX11_open_91 d v1 v2 = some x) (K : (fun q => q = (d', r)) x) : V w l WF G (QM w G WF (some (mI r)) d' m 0 0) d m 0 0 91 [mA 1545, mI v1, mI v2] [] := by
  unfold fX11_open_91 at h
  exact loop_ok (P := fX11_open_91P w l G (QM w G WF (some (mI r)) d' m 0 0) m v1) (fun s x hx h1 h2 => fX11_open_91f_ok F hX hp hx (by
    cases x with
    | inl s' => exact h1 s' rfl
    | inr z => cases h2 z rfl; exact K)) h
theorem fX11_open_73_ok {w : Wd} {l : Launch} {G : Cx} {d m dd : Dt} {v2 s0 s1 : Int} {d' : Dt} {r : Int} {x : ((Int × Int) ⊕ (Dt × Int))} (F : Fx w G cX11_open RX11 3 (some .int) { frames := 3, cells := 0, slots := 0, locals := 73 }) (hX : WF dd m) (hp : PB m 1545 11) (h : fX11_open_73 d v2 s0 s1 = some x) (K : (Sum.elim (fX11_open_38P w l G (QM w G WF (some (mI r)) d' m 0 0) m d) (fun q => q = (d', r))) x) : V w l WF G (QM w G WF (some (mI r)) d' m 0 0) d m 0 0 73 [mA 1545, mU, mI v2] [mI s1, mI s0] := by
  unfold fX11_open_73 at h
  refine v_iadd F dX11_open_73 ?_
  obtain ⟨x21, ex21, h⟩ := lv_some h
  refine v_nI ex21 ?_
  refine v_istore_n F dX11_open_74 rfl (Nat.le_of_ble_eq_true rfl) (L' := [mA 1545, mI x21, mI v2]) rfl ?_
  obtain ⟨x22, ex22, h⟩ := lv_some h
  refine v_iincN F dX11_open_75 (Nat.le_of_ble_eq_true rfl) rfl ex22 (L' := [mA 1545, mI x21, mI x22]) rfl ?_
  refine v_goto F dX11_open_78 rfl ?_
  cases h
  exact K
theorem fX11_open_38f_ok {w : Wd} {l : Launch} {G : Cx} {d m dd : Dt} {d' : Dt} {r : Int} {s : Int × Int} {x : ((Int × Int) ⊕ (Dt × Int))} (F : Fx w G cX11_open RX11 3 (some .int) { frames := 3, cells := 0, slots := 0, locals := 73 }) (hX : WF dd m) (hp : PB m 1545 11) (h : fX11_open_38f d s = some x) (K : (Sum.elim (fX11_open_38P w l G (QM w G WF (some (mI r)) d' m 0 0) m d) (fun q => q = (d', r))) x) : V w l WF G (QM w G WF (some (mI r)) d' m 0 0) d m 0 0 38 [mA 1545, mI (s.1), mI (s.2)] [] := by
  obtain ⟨v1, v2⟩ := s
  unfold fX11_open_38f at h
  dsimp only at h
  refine v_iload_n F dX11_open_38 rfl rfl ?_
  refine v_aload_n F dX11_open_39 rfl rfl ?_
  refine gf_X11_543 F dX11_open_40 hp ?_
  refine v_icmp_ge F dX11_open_43 rfl (fun hq6 => ?_) (fun hq6 => ?_)
  · rw [if_pos hq6] at h
    obtain ⟨z, hu, ez⟩ := up_some h
    clear h
    subst ez
    have h := hu
    clear hu
    refine v_iload_n F dX11_open_81 rfl rfl ?_
    refine v_iconst F dX11_open_82 ⟨by decide, by decide⟩ ?_
    refine v_icmp_ge F dX11_open_83 rfl (fun hq7 => ?_) (fun hq7 => ?_)
    · rw [if_pos hq7] at h
      refine v_iconst F dX11_open_89 ⟨by decide, by decide⟩ ?_
      refine v_istore_n F dX11_open_90 rfl (Nat.le_of_ble_eq_true rfl) (L' := [mA 1545, mI v1, mI 0]) rfl ?_
      exact fX11_open_91_ok F hX hp h K
    · rw [if_neg hq7] at h
      refine v_bipush F dX11_open_86 rfl ⟨by decide, by decide⟩ ?_
      cases h
      cases (show _ = (d', r) from K)
      exact v_iret F dX11_open_88
  · rw [if_neg hq6] at h
    refine v_iload_n F dX11_open_46 rfl rfl ?_
    refine v_aload_n F dX11_open_47 rfl rfl ?_
    refine gf_X11_661 F dX11_open_48 hp (v := 1604) rfl ?_
    refine v_iload_n F dX11_open_51 rfl rfl ?_
    obtain ⟨hi19, h⟩ := ck_some h
    refine v_iald F dX11_open_52 (ar_X11_84 hX hp) hi19 ?_
    refine v_bipush F dX11_open_53 rfl ⟨by decide, by decide⟩ ?_
    refine v_icmp_ne F dX11_open_55 rfl (fun hq20 => ?_) (fun hq20 => ?_)
    · rw [if_neg hq20] at h
      refine v_iconst F dX11_open_72 ⟨by decide, by decide⟩ ?_
      refine v_fgt (L' := [mA 1545, mU, mI v2]) ⟨Or.inl rfl, Or.inr rfl, Or.inl rfl, trivial⟩ ?_
      exact fX11_open_73_ok F hX hp h K
    · rw [if_pos hq20] at h
      refine v_aload_n F dX11_open_58 rfl rfl ?_
      refine gf_X11_658 F dX11_open_59 hp (v := 1605) rfl ?_
      refine v_iload_n F dX11_open_62 rfl rfl ?_
      refine v_iald F dX11_open_63 (ar_X11_85 hX hp) hi19 ?_
      refine v_iconst F dX11_open_64 ⟨by decide, by decide⟩ ?_
      refine v_icmp_ne F dX11_open_65 rfl (fun hq23 => ?_) (fun hq23 => ?_)
      · rw [if_neg hq23] at h
        refine v_iconst F dX11_open_72 ⟨by decide, by decide⟩ ?_
        refine v_fgt (L' := [mA 1545, mU, mI v2]) ⟨Or.inl rfl, Or.inr rfl, Or.inl rfl, trivial⟩ ?_
        exact fX11_open_73_ok F hX hp h K
      · rw [if_pos hq23] at h
        refine v_iconst F dX11_open_68 ⟨by decide, by decide⟩ ?_
        refine v_goto F dX11_open_69 rfl ?_
        refine v_fgt (L' := [mA 1545, mU, mI v2]) ⟨Or.inl rfl, Or.inr rfl, Or.inl rfl, trivial⟩ ?_
        exact fX11_open_73_ok F hX hp h K
theorem fX11_open_38_ok {w : Wd} {l : Launch} {G : Cx} {d m dd : Dt} {v1 v2 : Int} {d' : Dt} {r : Int} {x : (Dt × Int)} (F : Fx w G cX11_open RX11 3 (some .int) { frames := 3, cells := 0, slots := 0, locals := 73 }) (hX : WF dd m) (hp : PB m 1545 11) (h : fX11_open_38 d v1 v2 = some x) (K : (fun q => q = (d', r)) x) : V w l WF G (QM w G WF (some (mI r)) d' m 0 0) d m 0 0 38 [mA 1545, mI v1, mI v2] [] := by
  unfold fX11_open_38 at h
  exact loop_ok (P := fX11_open_38P w l G (QM w G WF (some (mI r)) d' m 0 0) m d) (fun s x hx h1 h2 => fX11_open_38f_ok F hX hp hx (by
    cases x with
    | inl s' => exact h1 s' rfl
    | inr z => cases h2 z rfl; exact K)) h
theorem vm_X11_open {w : Wd} {l : Launch} {d m : Dt} {d' : Dt} {r : Int} (hp : PB m 1545 11) (h : fX11_open d = some (d', r)) : VM w l WF yX11_open cX11_open 3 (some .int) 3 73 0 0 d m [mA 1545] (some (mI r)) d' m := by
  obtain ⟨x, h, K⟩ : ∃ x, fX11_open d = some x ∧ x = (d', r) := ⟨_, h, rfl⟩
  refine VM.of (L := [mA 1545, mU, mU]) (by decide +kernel) rfl (Nat.le_of_ble_eq_true rfl) fun G F _ => v_fact fun _ hX _ _ => ?_
  unfold fX11_open at h
  refine v_aload_n F dX11_open_0 rfl rfl ?_
  refine gf_X11_141 F dX11_open_1 hp ?_
  refine v_if_ne F dX11_open_4 rfl (fun hq1 => ?_) (fun hq1 => ?_)
  · rw [if_neg hq1] at h
    refine v_aload_n F dX11_open_9 rfl rfl ?_
    refine gf_X11_17 F dX11_open_10 hp ?_
    refine v_aload_n F dX11_open_13 rfl rfl ?_
    refine v_iconst F dX11_open_14 ⟨by decide, by decide⟩ ?_
    obtain ⟨x2, hc3, h⟩ := b1_some h
    refine v_callVv (c := 11) F dX11_open_15 cv_X11_466 rfl (PB.ob hp hX (Nat.le_of_ble_eq_true rfl)) (Nat.le_of_ble_eq_true rfl) rfl (vm_X11_lawIs hp hc3) rfl (rOk.of rfl) ?_
    refine v_icmp_lt F dX11_open_18 rfl (fun hq4 => ?_) (fun hq4 => ?_)
    · rw [if_pos hq4] at h
      refine v_bipush F dX11_open_31 rfl ⟨by decide, by decide⟩ ?_
      cases h
      cases (show _ = (d', r) from K)
      exact v_iret F dX11_open_33
    · rw [if_neg hq4] at h
      refine v_aload_n F dX11_open_21 rfl rfl ?_
      refine gf_X11_552 F dX11_open_22 hp (v := 1615) rfl ?_
      refine v_bipush F dX11_open_25 rfl ⟨by decide, by decide⟩ ?_
      refine v_zald F dX11_open_27 (ar_X11_95 hX hp) ⟨by decide, by decide⟩ ?_
      refine v_if_eq F dX11_open_28 rfl (fun hq5 => ?_) (fun hq5 => ?_)
      · rw [if_pos hq5] at h
        refine v_iconst F dX11_open_34 ⟨by decide, by decide⟩ ?_
        refine v_istore_n F dX11_open_35 rfl (Nat.le_of_ble_eq_true rfl) (L' := [mA 1545, mI 0, mU]) rfl ?_
        refine v_iconst F dX11_open_36 ⟨by decide, by decide⟩ ?_
        refine v_istore_n F dX11_open_37 rfl (Nat.le_of_ble_eq_true rfl) (L' := [mA 1545, mI 0, mI 0]) rfl ?_
        exact fX11_open_38_ok F hX hp h K
      · rw [if_neg hq5] at h
        refine v_bipush F dX11_open_31 rfl ⟨by decide, by decide⟩ ?_
        cases h
        cases (show _ = (d', r) from K)
        exact v_iret F dX11_open_33
  · rw [if_pos hq1] at h
    refine v_iconst F dX11_open_7 ⟨by decide, by decide⟩ ?_
    cases h
    cases (show _ = (d', r) from K)
    exact v_iret F dX11_open_8
theorem vm_X0_isBox {w : Wd} {l : Launch} {d m : Dt} {a1 : Int} {r : Int} (hp : PB m 1 0) (h : fX0_isBox d a1 = some r) : VM w l WF yX0_isBox cX0_isBox 2 (some .boolean) 2 43 0 0 d m [mA 1, mI a1] (some (mI r)) d m := by
  obtain ⟨x, h, K⟩ : ∃ x, fX0_isBox d a1 = some x ∧ x = r := ⟨_, h, rfl⟩
  refine VM.of (L := [mA 1, mI a1]) (by decide +kernel) rfl (Nat.le_of_ble_eq_true rfl) fun G F _ => v_fact fun _ hX _ _ => ?_
  unfold fX0_isBox at h
  refine v_aload_n F dX0_isBox_0 rfl rfl ?_
  refine v_iload_n F dX0_isBox_1 rfl rfl ?_
  refine v_callVv (c := 0) F dX0_isBox_2 cv_X0_430 rfl (PB.ob hp hX (Nat.le_of_ble_eq_true rfl)) (Nat.le_of_ble_eq_true rfl) rfl (vm_X0_isStation hp) rfl (rOk.of rfl) ?_
  refine v_if_ne F dX0_isBox_5 rfl (fun hq1 => ?_) (fun hq1 => ?_)
  · rw [if_neg hq1] at h
    refine v_iconst F dX0_isBox_31 ⟨by decide, by decide⟩ ?_
    refine v_goto F dX0_isBox_32 rfl ?_
    cases h
    cases (show _ = r from K)
    exact v_zret F (Or.inr rfl) dX0_isBox_36
  · rw [if_pos hq1] at h
    refine v_iload_n F dX0_isBox_8 rfl rfl ?_
    refine v_bipush F dX0_isBox_9 rfl ⟨by decide, by decide⟩ ?_
    refine v_icmp_ne F dX0_isBox_11 rfl (fun hq2 => ?_) (fun hq2 => ?_)
    · rw [if_neg hq2] at h
      refine v_iconst F dX0_isBox_35 ⟨by decide, by decide⟩ ?_
      cases h
      cases (show _ = r from K)
      exact v_zret F (Or.inl rfl) dX0_isBox_36
    · rw [if_pos hq2] at h
      refine v_aload_n F dX0_isBox_14 rfl rfl ?_
      refine gf_X0_237 F dX0_isBox_15 hp ?_
      refine v_if_eq F dX0_isBox_18 rfl (fun hq3 => ?_) (fun hq3 => ?_)
      · rw [if_pos hq3] at h
        refine v_iconst F dX0_isBox_35 ⟨by decide, by decide⟩ ?_
        cases h
        cases (show _ = r from K)
        exact v_zret F (Or.inl rfl) dX0_isBox_36
      · rw [if_neg hq3] at h
        refine v_aload_n F dX0_isBox_21 rfl rfl ?_
        obtain ⟨x4, ex4, h⟩ := lv_some h
        obtain ⟨hn6, h⟩ := ck_some h
        refine gf_X0_42 F dX0_isBox_22 hp ex4 fun hr5 => ?_
        have x4p := hr5.resolve_left hn6
        refine gf_X0_433 F dX0_isBox_25 x4p ?_
        refine v_if_eq F dX0_isBox_28 rfl (fun hq7 => ?_) (fun hq7 => ?_)
        · rw [if_pos hq7] at h
          refine v_iconst F dX0_isBox_35 ⟨by decide, by decide⟩ ?_
          cases h
          cases (show _ = r from K)
          exact v_zret F (Or.inl rfl) dX0_isBox_36
        · rw [if_neg hq7] at h
          refine v_iconst F dX0_isBox_31 ⟨by decide, by decide⟩ ?_
          refine v_goto F dX0_isBox_32 rfl ?_
          cases h
          cases (show _ = r from K)
          exact v_zret F (Or.inr rfl) dX0_isBox_36
def fX10_close_7P (w : Wd) (l : Launch) (G : Cx) (Q : State → Prop) (m : Dt) (o : Int) (s : Dt × Int) : Prop := V w l WF G Q s.1 m 0 0 7 [mA o, mI (s.2)] []
theorem fX10_close_7f_ok {w : Wd} {l : Launch} {G : Cx} {m dd : Dt} {o : Int} {d' : Dt} {s : Dt × Int} {x : ((Dt × Int) ⊕ Dt)} (F : Fx w G cX10_close RX10 2 none { frames := 1, cells := 0, slots := 0, locals := 40 }) (hX : WF dd m) (hp : PB m o 10) (h : fX10_close_7f o s = some x) (K : (Sum.elim (fX10_close_7P w l G (QM w G WF none d' m 0 0) m o) (fun q => q = d')) x) : V w l WF G (QM w G WF none d' m 0 0) s.1 m 0 0 7 [mA o, mI (s.2)] [] := by
  obtain ⟨d, v1⟩ := s
  unfold fX10_close_7f at h
  dsimp only at h
  refine v_iload_n F dX10_close_7 rfl rfl ?_
  refine v_aload_n F dX10_close_8 rfl rfl ?_
  refine gf_X10_23 F dX10_close_9 hp ?_
  refine v_icmp_ge F dX10_close_12 rfl (fun hq2 => ?_) (fun hq2 => ?_)
  · rw [if_pos hq2] at h
    obtain ⟨z, hu, ez⟩ := up_some h
    clear h
    subst ez
    have h := hu
    clear hu
    cases h
    cases (show _ = d' from K)
    exact v_vret F dX10_close_40
  · rw [if_neg hq2] at h
    refine v_aload_n F dX10_close_15 rfl rfl ?_
    refine gf_X10_17 F dX10_close_16 hp (v := (o + 2)) rfl ?_
    refine v_iload_n F dX10_close_19 rfl rfl ?_
    obtain ⟨hi3, h⟩ := ck_some h
    refine v_aaldF (c := 10) (k := 1) F dX10_close_20 hp (Nat.le_of_ble_eq_true rfl) (Nat.le_of_ble_eq_true rfl) (by decide) (by decide) rfl (ar_X10_1 hX hp) (Nat.le_of_ble_eq_true rfl) rfl rfl rfl rfl hi3 (v := ((o + 3) + v1)) (by show o + 3 + 1 * v1 = _; omega) ?_
    refine v_iconst F dX10_close_21 ⟨by decide, by decide⟩ ?_
    refine v_aload_n F dX10_close_22 rfl rfl ?_
    refine gf_X10_20 F dX10_close_23 hp (v := (o + 63)) rfl ?_
    refine v_iload_n F dX10_close_26 rfl rfl ?_
    refine v_aaldF (c := 10) (k := 2) F dX10_close_27 hp (Nat.le_of_ble_eq_true rfl) (Nat.le_of_ble_eq_true rfl) (by decide) (by decide) rfl (ar_X10_2 hX hp) (Nat.le_of_ble_eq_true rfl) rfl rfl rfl rfl hi3 (v := ((o + 64) + v1)) (by show o + 64 + 1 * v1 = _; omega) ?_
    refine v_iconst F dX10_close_28 ⟨by decide, by decide⟩ ?_
    refine v_bipush F dX10_close_29 rfl ⟨by decide, by decide⟩ ?_
    obtain ⟨d4, ed4, h⟩ := cd_some h
    refine v_copy (t := 102) F dX10_close_31 ca_X10_38 (ae_X10_1 (i := v1) hX hp hi3 (v := ((o + 3) + v1)) (by omega)) (ae_X10_2 (i := v1) hX hp hi3 (v := ((o + 64) + v1)) (by omega)) (Nat.le_of_ble_eq_true rfl) (Or.inr (Or.inl rfl)) rfl rfl ⟨by decide, by decide, by decide, by decide, by decide⟩ rfl ?_
    refine v_nD ed4 ?_
    obtain ⟨x5, ex5, h⟩ := lv_some h
    refine v_iincN F dX10_close_34 (Nat.le_of_ble_eq_true rfl) rfl ex5 (L' := [mA o, mI x5]) rfl ?_
    refine v_goto F dX10_close_37 rfl ?_
    cases h
    exact K
theorem fX10_close_7_ok {w : Wd} {l : Launch} {G : Cx} {d m dd : Dt} {o v1 : Int} {d' : Dt} {x : Dt} (F : Fx w G cX10_close RX10 2 none { frames := 1, cells := 0, slots := 0, locals := 40 }) (hX : WF dd m) (hp : PB m o 10) (h : fX10_close_7 d o v1 = some x) (K : (fun q => q = d') x) : V w l WF G (QM w G WF none d' m 0 0) d m 0 0 7 [mA o, mI v1] [] := by
  unfold fX10_close_7 at h
  exact loop_ok (P := fX10_close_7P w l G (QM w G WF none d' m 0 0) m o) (fun s x hx h1 h2 => fX10_close_7f_ok F hX hp hx (by
    cases x with
    | inl s' => exact h1 s' rfl
    | inr z => cases h2 z rfl; exact K)) h
theorem vm_X10_close {w : Wd} {l : Launch} {d m : Dt} {o : Int} {d' : Dt} (hp : PB m o 10) (h : fX10_close d o = some d') : VM w l WF yX10_close cX10_close 2 none 1 40 0 0 d m [mA o] none d' m := by
  obtain ⟨x, h, K⟩ : ∃ x, fX10_close d o = some x ∧ x = d' := ⟨_, h, rfl⟩
  refine VM.of (L := [mA o, mU]) (by decide +kernel) rfl (Nat.le_of_ble_eq_true rfl) fun G F _ => v_fact fun _ hX _ _ => ?_
  unfold fX10_close at h
  refine v_aload_n F dX10_close_0 rfl rfl ?_
  refine v_iconst F dX10_close_1 ⟨by decide, by decide⟩ ?_
  obtain ⟨d1, ed1, h⟩ := sd_some h
  refine pf_X10_27 F dX10_close_2 hp (Or.inr rfl) ?_
  refine v_nD ed1 ?_
  refine v_iconst F dX10_close_5 ⟨by decide, by decide⟩ ?_
  refine v_istore_n F dX10_close_6 rfl (Nat.le_of_ble_eq_true rfl) (L' := [mA o, mI 0]) rfl ?_
  exact fX10_close_7_ok F hX hp h K
def fX0_close_63P (w : Wd) (l : Launch) (G : Cx) (Q : State → Prop) (m : Dt) (a1 : Int) (s : Dt × Int × Int) : Prop := V w l WF G Q s.1 m 0 0 63 [mA 1, mI a1, mI (s.2.1), mI (s.2.2), mU] []
theorem fX0_close_63f_ok {w : Wd} {l : Launch} {G : Cx} {m dd : Dt} {a1 : Int} {d' : Dt} {r : Int} {s : Dt × Int × Int} {x : ((Dt × Int × Int) ⊕ (Dt × Int))} (F : Fx w G cX0_close RX0 5 (some .int) { frames := 4, cells := 0, slots := 0, locals := 115 }) (hX : WF dd m) (hp : PB m 1 0) (h : fX0_close_63f a1 s = some x) (K : (Sum.elim (fX0_close_63P w l G (QM w G WF (some (mI r)) d' m 0 0) m a1) (fun q => q = (d', r))) x) : V w l WF G (QM w G WF (some (mI r)) d' m 0 0) s.1 m 0 0 63 [mA 1, mI a1, mI (s.2.1), mI (s.2.2), mU] [] := by
  obtain ⟨d, v2, v3⟩ := s
  unfold fX0_close_63f at h
  dsimp only at h
  refine v_iload_n F dX0_close_63 rfl rfl ?_
  refine v_aload_n F dX0_close_64 rfl rfl ?_
  refine gf_X0_277 F dX0_close_65 hp ?_
  refine v_icmp_ge F dX0_close_68 rfl (fun hq11 => ?_) (fun hq11 => ?_)
  · rw [if_pos hq11] at h
    obtain ⟨z, hu, ez⟩ := up_some h
    clear h
    subst ez
    have h := hu
    clear hu
    refine v_aload_n F dX0_close_120 rfl rfl ?_
    refine gf_X0_120 F dX0_close_121 hp (v := 78) rfl ?_
    refine v_iload_n F dX0_close_124 rfl rfl ?_
    obtain ⟨hi12, h⟩ := ck_some h
    refine v_aaldF (c := 0) (k := 34) F dX0_close_125 hp (Nat.le_of_ble_eq_true rfl) (Nat.le_of_ble_eq_true rfl) (by decide) (by decide) rfl (ar_X0_34 hX hp) (Nat.le_of_ble_eq_true rfl) rfl rfl rfl rfl hi12 (v := (677 + 124 * a1)) (by show 1 + 676 + 124 * a1 = _; omega) ?_
    obtain ⟨d13, hc14, h⟩ := bd_some h
    refine v_callV0 (c := 10) F dX0_close_126 cv_X0_526 rfl (PB.ob (ae_X0_34 (i := a1) hX hp hi12 (v := (677 + 124 * a1)) (by omega)) hX (Nat.le_of_ble_eq_true rfl)) (Nat.le_of_ble_eq_true rfl) rfl (vm_X10_close (ae_X0_34 (i := a1) hX hp hi12 (v := (677 + 124 * a1)) (by omega)) hc14) rfl (rOk.of rfl) ?_
    refine v_aload_n F dX0_close_129 rfl rfl ?_
    refine v_bipush F dX0_close_130 rfl ⟨by decide, by decide⟩ ?_
    refine v_iload_n F dX0_close_132 rfl rfl ?_
    refine v_iconst F dX0_close_133 ⟨by decide, by decide⟩ ?_
    refine v_iconst F dX0_close_134 ⟨by decide, by decide⟩ ?_
    refine v_iconst F dX0_close_135 ⟨by decide, by decide⟩ ?_
    obtain ⟨d15, hc16, h⟩ := bd_some h
    refine v_callV0 (c := 0) F dX0_close_136 cv_X0_173 rfl (PB.ob hp hX (Nat.le_of_ble_eq_true rfl)) (Nat.le_of_ble_eq_true rfl) rfl (vm_X0_write hp hc16) rfl (rOk.of rfl) ?_
    refine v_iload_n F dX0_close_139 rfl rfl ?_
    cases h
    cases (show _ = (d', r) from K)
    exact v_iret F dX0_close_140
  · rw [if_neg hq11] at h
    refine v_aload_n F dX0_close_71 rfl rfl ?_
    refine gf_X0_111 F dX0_close_72 hp (v := 76) rfl ?_
    refine v_iload_n F dX0_close_75 rfl rfl ?_
    obtain ⟨hi17, h⟩ := ck_some h
    obtain ⟨x18, ex18, h⟩ := lv_some h
    obtain ⟨hn20, h⟩ := ck_some h
    refine v_aaldN (t := 112) (c := 14) F dX0_close_76 (ar_X0_31 hX hp) (Nat.le_of_ble_eq_true rfl) rfl rfl rfl rfl rfl hi17 ex18 fun hr19 => ?_
    have x18p := hr19.resolve_left hn20
    refine v_astore F dX0_close_77 (Nat.le_of_ble_eq_true rfl) (L' := [mA 1, mI a1, mI v2, mI v3, mA x18]) rfl ?_
    refine v_aload F dX0_close_79 rfl ?_
    refine gf_X0_442 F dX0_close_81 x18p ?_
    refine v_iload_n F dX0_close_84 rfl rfl ?_
    refine v_icmp_ne F dX0_close_85 rfl (fun hq21 => ?_) (fun hq21 => ?_)
    · rw [if_neg hq21] at h
      obtain ⟨x22, ex22, h⟩ := lv_some h
      refine v_iincN F dX0_close_114 (Nat.le_of_ble_eq_true rfl) rfl ex22 (L' := [mA 1, mI a1, mI v2, mI x22, mA x18]) rfl ?_
      refine v_goto F dX0_close_117 rfl ?_
      cases h
      refine v_fgt (L' := [mA 1, mI a1, mI v2, mI x22, mU]) ⟨Or.inl rfl, Or.inl rfl, Or.inl rfl, Or.inl rfl, Or.inr rfl, trivial⟩ ?_
      exact K
    · rw [if_pos hq21] at h
      refine v_aload F dX0_close_88 rfl ?_
      refine v_callVv (c := 14) F dX0_close_90 cv_X0_450 rfl (PB.ob x18p hX (Nat.le_of_ble_eq_true rfl)) (Nat.le_of_ble_eq_true rfl) rfl (vm_X15_lives x18p) rfl (rOk.of rfl) ?_
      refine v_if_eq F dX0_close_93 rfl (fun hq23 => ?_) (fun hq23 => ?_)
      · rw [if_pos hq23] at h
        obtain ⟨x24, ex24, h⟩ := lv_some h
        refine v_iincN F dX0_close_114 (Nat.le_of_ble_eq_true rfl) rfl ex24 (L' := [mA 1, mI a1, mI v2, mI x24, mA x18]) rfl ?_
        refine v_goto F dX0_close_117 rfl ?_
        cases h
        refine v_fgt (L' := [mA 1, mI a1, mI v2, mI x24, mU]) ⟨Or.inl rfl, Or.inl rfl, Or.inl rfl, Or.inl rfl, Or.inr rfl, trivial⟩ ?_
        exact K
      · rw [if_neg hq23] at h
        refine v_aload F dX0_close_96 rfl ?_
        refine gf_X0_445 F dX0_close_98 x18p ?_
        refine v_iconst F dX0_close_101 ⟨by decide, by decide⟩ ?_
        refine v_icmp_eq F dX0_close_102 rfl (fun hq25 => ?_) (fun hq25 => ?_)
        · rw [if_pos hq25] at h
          obtain ⟨x26, ex26, h⟩ := lv_some h
          refine v_iincN F dX0_close_114 (Nat.le_of_ble_eq_true rfl) rfl ex26 (L' := [mA 1, mI a1, mI v2, mI x26, mA x18]) rfl ?_
          refine v_goto F dX0_close_117 rfl ?_
          cases h
          refine v_fgt (L' := [mA 1, mI a1, mI v2, mI x26, mU]) ⟨Or.inl rfl, Or.inl rfl, Or.inl rfl, Or.inl rfl, Or.inr rfl, trivial⟩ ?_
          exact K
        · rw [if_neg hq25] at h
          refine v_aload F dX0_close_105 rfl ?_
          refine v_iconst F dX0_close_107 ⟨by decide, by decide⟩ ?_
          obtain ⟨d27, ed27, h⟩ := sd_some h
          refine pf_X0_445 F dX0_close_108 x18p ?_
          refine v_nD ed27 ?_
          obtain ⟨x28, ex28, h⟩ := lv_some h
          refine v_iincN F dX0_close_111 (Nat.le_of_ble_eq_true rfl) rfl ex28 (L' := [mA 1, mI a1, mI x28, mI v3, mA x18]) rfl ?_
          obtain ⟨x29, ex29, h⟩ := lv_some h
          refine v_iincN F dX0_close_114 (Nat.le_of_ble_eq_true rfl) rfl ex29 (L' := [mA 1, mI a1, mI x28, mI x29, mA x18]) rfl ?_
          refine v_goto F dX0_close_117 rfl ?_
          cases h
          refine v_fgt (L' := [mA 1, mI a1, mI x28, mI x29, mU]) ⟨Or.inl rfl, Or.inl rfl, Or.inl rfl, Or.inl rfl, Or.inr rfl, trivial⟩ ?_
          exact K
theorem fX0_close_63_ok {w : Wd} {l : Launch} {G : Cx} {d m dd : Dt} {a1 v2 v3 : Int} {d' : Dt} {r : Int} {x : (Dt × Int)} (F : Fx w G cX0_close RX0 5 (some .int) { frames := 4, cells := 0, slots := 0, locals := 115 }) (hX : WF dd m) (hp : PB m 1 0) (h : fX0_close_63 d a1 v2 v3 = some x) (K : (fun q => q = (d', r)) x) : V w l WF G (QM w G WF (some (mI r)) d' m 0 0) d m 0 0 63 [mA 1, mI a1, mI v2, mI v3, mU] [] := by
  unfold fX0_close_63 at h
  exact loop_ok (P := fX0_close_63P w l G (QM w G WF (some (mI r)) d' m 0 0) m a1) (fun s x hx h1 h2 => fX0_close_63f_ok F hX hp hx (by
    cases x with
    | inl s' => exact h1 s' rfl
    | inr z => cases h2 z rfl; exact K)) h
theorem fX0_close_44_ok {w : Wd} {l : Launch} {G : Cx} {d m dd : Dt} {a1 : Int} {d' : Dt} {r : Int} {x : (Dt × Int)} (F : Fx w G cX0_close RX0 5 (some .int) { frames := 4, cells := 0, slots := 0, locals := 115 }) (hX : WF dd m) (hp : PB m 1 0) (h : fX0_close_44 d a1 = some x) (K : (fun q => q = (d', r)) x) : V w l WF G (QM w G WF (some (mI r)) d' m 0 0) d m 0 0 44 [mA 1, mI a1, mU, mU, mU] [] := by
  unfold fX0_close_44 at h
  refine v_aload_n F dX0_close_44 rfl rfl ?_
  refine gf_X0_120 F dX0_close_45 hp (v := 78) rfl ?_
  refine v_iload_n F dX0_close_48 rfl rfl ?_
  obtain ⟨hi9, h⟩ := ck_some h
  refine v_aaldF (c := 0) (k := 34) F dX0_close_49 hp (Nat.le_of_ble_eq_true rfl) (Nat.le_of_ble_eq_true rfl) (by decide) (by decide) rfl (ar_X0_34 hX hp) (Nat.le_of_ble_eq_true rfl) rfl rfl rfl rfl hi9 (v := (677 + 124 * a1)) (by show 1 + 676 + 124 * a1 = _; omega) ?_
  refine gf_X0_436 F dX0_close_50 (ae_X0_34 (i := a1) hX hp hi9 (v := (677 + 124 * a1)) (by omega)) ?_
  refine v_if_eq F dX0_close_53 rfl (fun hq10 => ?_) (fun hq10 => ?_)
  · rw [if_pos hq10] at h
    refine v_iconst F dX0_close_59 ⟨by decide, by decide⟩ ?_
    refine v_istore_n F dX0_close_60 rfl (Nat.le_of_ble_eq_true rfl) (L' := [mA 1, mI a1, mI 0, mU, mU]) rfl ?_
    refine v_iconst F dX0_close_61 ⟨by decide, by decide⟩ ?_
    refine v_istore_n F dX0_close_62 rfl (Nat.le_of_ble_eq_true rfl) (L' := [mA 1, mI a1, mI 0, mI 0, mU]) rfl ?_
    exact fX0_close_63_ok F hX hp h K
  · rw [if_neg hq10] at h
    refine v_bipush F dX0_close_56 rfl ⟨by decide, by decide⟩ ?_
    cases h
    cases (show _ = (d', r) from K)
    exact v_iret F dX0_close_58
theorem vm_X0_close {w : Wd} {l : Launch} {d m : Dt} {a1 : Int} {d' : Dt} {r : Int} (hp : PB m 1 0) (h : fX0_close d a1 = some (d', r)) : VM w l WF yX0_close cX0_close 5 (some .int) 4 115 0 0 d m [mA 1, mI a1] (some (mI r)) d' m := by
  obtain ⟨x, h, K⟩ : ∃ x, fX0_close d a1 = some x ∧ x = (d', r) := ⟨_, h, rfl⟩
  refine VM.of (L := [mA 1, mI a1, mU, mU, mU]) (by decide +kernel) rfl (Nat.le_of_ble_eq_true rfl) fun G F _ => v_fact fun _ hX _ _ => ?_
  unfold fX0_close at h
  refine v_aload_n F dX0_close_0 rfl rfl ?_
  refine v_iload_n F dX0_close_1 rfl rfl ?_
  obtain ⟨x1, hc2, h⟩ := b1_some h
  refine v_callVv (c := 0) F dX0_close_2 cv_X0_523 rfl (PB.ob hp hX (Nat.le_of_ble_eq_true rfl)) (Nat.le_of_ble_eq_true rfl) rfl (vm_X0_isBox hp hc2) rfl (rOk.of rfl) ?_
  refine v_if_ne F dX0_close_5 rfl (fun hq3 => ?_) (fun hq3 => ?_)
  · rw [if_neg hq3] at h
    refine v_aload_n F dX0_close_10 rfl rfl ?_
    refine gf_X0_167 F dX0_close_11 hp ?_
    refine v_aload_n F dX0_close_14 rfl rfl ?_
    obtain ⟨x4, ex4, h⟩ := lv_some h
    obtain ⟨hn6, h⟩ := ck_some h
    refine gf_X0_42 F dX0_close_15 hp ex4 fun hr5 => ?_
    have x4p := hr5.resolve_left hn6
    refine gf_X0_293 F dX0_close_18 x4p (v := (x4 + 1)) rfl ?_
    refine v_iconst F dX0_close_21 ⟨by decide, by decide⟩ ?_
    refine v_iald F dX0_close_22 (ar_X4_0 hX x4p) ⟨by decide, by decide⟩ ?_
    refine v_icmp_lt F dX0_close_23 rfl (fun hq7 => ?_) (fun hq7 => ?_)
    · rw [if_pos hq7] at h
      refine v_bipush F dX0_close_41 rfl ⟨by decide, by decide⟩ ?_
      cases h
      cases (show _ = (d', r) from K)
      exact v_iret F dX0_close_43
    · rw [if_neg hq7] at h
      refine v_iload_n F dX0_close_26 rfl rfl ?_
      refine v_bipush F dX0_close_27 rfl ⟨by decide, by decide⟩ ?_
      refine v_icmp_eq F dX0_close_29 rfl (fun hq8 => ?_) (fun hq8 => ?_)
      · rw [if_pos hq8] at h
        exact fX0_close_44_ok F hX hp h K
      · rw [if_neg hq8] at h
        refine v_aload_n F dX0_close_32 rfl rfl ?_
        refine gf_X0_101 F dX0_close_33 hp (v := 68) rfl ?_
        refine v_iload_n F dX0_close_36 rfl rfl ?_
        obtain ⟨hi30, h⟩ := ck_some h
        refine v_zald F dX0_close_37 (ar_X0_28 hX hp) hi30 ?_
        refine v_if_eq F dX0_close_38 rfl (fun hq31 => ?_) (fun hq31 => ?_)
        · rw [if_pos hq31] at h
          exact fX0_close_44_ok F hX hp h K
        · rw [if_neg hq31] at h
          refine v_bipush F dX0_close_41 rfl ⟨by decide, by decide⟩ ?_
          cases h
          cases (show _ = (d', r) from K)
          exact v_iret F dX0_close_43
  · rw [if_pos hq3] at h
    refine v_iconst F dX0_close_8 ⟨by decide, by decide⟩ ?_
    cases h
    cases (show _ = (d', r) from K)
    exact v_iret F dX0_close_9
theorem vm_X11_isBox {w : Wd} {l : Launch} {d m : Dt} {a1 : Int} {r : Int} (hp : PB m 1545 11) (h : fX11_isBox d a1 = some r) : VM w l WF yX11_isBox cX11_isBox 2 (some .boolean) 2 46 0 0 d m [mA 1545, mI a1] (some (mI r)) d m := by
  obtain ⟨x, h, K⟩ : ∃ x, fX11_isBox d a1 = some x ∧ x = r := ⟨_, h, rfl⟩
  refine VM.of (L := [mA 1545, mI a1]) (by decide +kernel) rfl (Nat.le_of_ble_eq_true rfl) fun G F _ => v_fact fun _ hX _ _ => ?_
  unfold fX11_isBox at h
  refine v_aload_n F dX11_isBox_0 rfl rfl ?_
  refine v_iload_n F dX11_isBox_1 rfl rfl ?_
  refine v_callVv (c := 11) F dX11_isBox_2 cv_X11_655 rfl (PB.ob hp hX (Nat.le_of_ble_eq_true rfl)) (Nat.le_of_ble_eq_true rfl) rfl (vm_X11_isStation hp) rfl (rOk.of rfl) ?_
  refine v_if_ne F dX11_isBox_5 rfl (fun hq1 => ?_) (fun hq1 => ?_)
  · rw [if_neg hq1] at h
    refine v_iconst F dX11_isBox_31 ⟨by decide, by decide⟩ ?_
    refine v_goto F dX11_isBox_32 rfl ?_
    cases h
    cases (show _ = r from K)
    exact v_zret F (Or.inr rfl) dX11_isBox_36
  · rw [if_pos hq1] at h
    refine v_aload_n F dX11_isBox_8 rfl rfl ?_
    refine gf_X11_141 F dX11_isBox_9 hp ?_
    refine v_if_eq F dX11_isBox_12 rfl (fun hq2 => ?_) (fun hq2 => ?_)
    · rw [if_pos hq2] at h
      refine v_iconst F dX11_isBox_35 ⟨by decide, by decide⟩ ?_
      cases h
      cases (show _ = r from K)
      exact v_zret F (Or.inl rfl) dX11_isBox_36
    · rw [if_neg hq2] at h
      refine v_iload_n F dX11_isBox_15 rfl rfl ?_
      refine v_bipush F dX11_isBox_16 rfl ⟨by decide, by decide⟩ ?_
      refine v_icmp_ne F dX11_isBox_18 rfl (fun hq3 => ?_) (fun hq3 => ?_)
      · rw [if_neg hq3] at h
        refine v_iconst F dX11_isBox_35 ⟨by decide, by decide⟩ ?_
        cases h
        cases (show _ = r from K)
        exact v_zret F (Or.inl rfl) dX11_isBox_36
      · rw [if_pos hq3] at h
        refine v_aload_n F dX11_isBox_21 rfl rfl ?_
        refine v_bipush F dX11_isBox_22 rfl ⟨by decide, by decide⟩ ?_
        obtain ⟨x4, hc5, h⟩ := b1_some h
        refine v_callVv (c := 11) F dX11_isBox_24 cv_X11_466 rfl (PB.ob hp hX (Nat.le_of_ble_eq_true rfl)) (Nat.le_of_ble_eq_true rfl) rfl (vm_X11_lawIs hp hc5) rfl (rOk.of rfl) ?_
        refine v_iconst F dX11_isBox_27 ⟨by decide, by decide⟩ ?_
        refine v_icmp_ne F dX11_isBox_28 rfl (fun hq6 => ?_) (fun hq6 => ?_)
        · rw [if_neg hq6] at h
          refine v_iconst F dX11_isBox_35 ⟨by decide, by decide⟩ ?_
          cases h
          cases (show _ = r from K)
          exact v_zret F (Or.inl rfl) dX11_isBox_36
        · rw [if_pos hq6] at h
          refine v_iconst F dX11_isBox_31 ⟨by decide, by decide⟩ ?_
          refine v_goto F dX11_isBox_32 rfl ?_
          cases h
          cases (show _ = r from K)
          exact v_zret F (Or.inr rfl) dX11_isBox_36
def fX11_close_63P (w : Wd) (l : Launch) (G : Cx) (Q : State → Prop) (m : Dt) (a1 : Int) (s : Dt × Int × Int) : Prop := V w l WF G Q s.1 m 0 0 63 [mA 1545, mI a1, mI (s.2.1), mI (s.2.2)] []
theorem fX11_close_63f_ok {w : Wd} {l : Launch} {G : Cx} {m dd : Dt} {a1 : Int} {d' : Dt} {r : Int} {s : Dt × Int × Int} {x : ((Dt × Int × Int) ⊕ (Dt × Int))} (F : Fx w G cX11_close RX11 4 (some .int) { frames := 3, cells := 0, slots := 0, locals := 73 }) (hX : WF dd m) (hp : PB m 1545 11) (h : fX11_close_63f a1 s = some x) (K : (Sum.elim (fX11_close_63P w l G (QM w G WF (some (mI r)) d' m 0 0) m a1) (fun q => q = (d', r))) x) : V w l WF G (QM w G WF (some (mI r)) d' m 0 0) s.1 m 0 0 63 [mA 1545, mI a1, mI (s.2.1), mI (s.2.2)] [] := by
  obtain ⟨d, v2, v3⟩ := s
  unfold fX11_close_63f at h
  dsimp only at h
  refine v_iload_n F dX11_close_63 rfl rfl ?_
  refine v_aload_n F dX11_close_64 rfl rfl ?_
  refine gf_X11_543 F dX11_close_65 hp ?_
  refine v_icmp_ge F dX11_close_68 rfl (fun hq11 => ?_) (fun hq11 => ?_)
  · rw [if_pos hq11] at h
    obtain ⟨z, hu, ez⟩ := up_some h
    clear h
    subst ez
    have h := hu
    clear hu
    refine v_aload_n F dX11_close_115 rfl rfl ?_
    refine v_bipush F dX11_close_116 rfl ⟨by decide, by decide⟩ ?_
    refine v_iload_n F dX11_close_118 rfl rfl ?_
    refine v_iconst F dX11_close_119 ⟨by decide, by decide⟩ ?_
    refine v_iconst F dX11_close_120 ⟨by decide, by decide⟩ ?_
    refine v_iconst F dX11_close_121 ⟨by decide, by decide⟩ ?_
    obtain ⟨d12, hc13, h⟩ := bd_some h
    refine v_callV0 (c := 11) F dX11_close_122 cv_X11_22 rfl (PB.ob hp hX (Nat.le_of_ble_eq_true rfl)) (Nat.le_of_ble_eq_true rfl) rfl (vm_X11_write hp hc13) rfl (rOk.of rfl) ?_
    refine v_iload_n F dX11_close_125 rfl rfl ?_
    cases h
    cases (show _ = (d', r) from K)
    exact v_iret F dX11_close_126
  · rw [if_neg hq11] at h
    refine v_aload_n F dX11_close_71 rfl rfl ?_
    refine gf_X11_661 F dX11_close_72 hp (v := 1604) rfl ?_
    refine v_iload_n F dX11_close_75 rfl rfl ?_
    obtain ⟨hi14, h⟩ := ck_some h
    refine v_iald F dX11_close_76 (ar_X11_84 hX hp) hi14 ?_
    refine v_iload_n F dX11_close_77 rfl rfl ?_
    refine v_icmp_ne F dX11_close_78 rfl (fun hq15 => ?_) (fun hq15 => ?_)
    · rw [if_neg hq15] at h
      obtain ⟨x16, ex16, h⟩ := lv_some h
      refine v_iincN F dX11_close_109 (Nat.le_of_ble_eq_true rfl) rfl ex16 (L' := [mA 1545, mI a1, mI v2, mI x16]) rfl ?_
      refine v_goto F dX11_close_112 rfl ?_
      cases h
      exact K
    · rw [if_pos hq15] at h
      refine v_aload_n F dX11_close_81 rfl rfl ?_
      refine v_iload_n F dX11_close_82 rfl rfl ?_
      obtain ⟨x17, hc18, h⟩ := b1_some h
      refine v_callVv (c := 11) F dX11_close_83 cv_X11_694 rfl (PB.ob hp hX (Nat.le_of_ble_eq_true rfl)) (Nat.le_of_ble_eq_true rfl) rfl (vm_X11_lives hp hc18) rfl (rOk.of rfl) ?_
      refine v_if_eq F dX11_close_86 rfl (fun hq19 => ?_) (fun hq19 => ?_)
      · rw [if_pos hq19] at h
        obtain ⟨x20, ex20, h⟩ := lv_some h
        refine v_iincN F dX11_close_109 (Nat.le_of_ble_eq_true rfl) rfl ex20 (L' := [mA 1545, mI a1, mI v2, mI x20]) rfl ?_
        refine v_goto F dX11_close_112 rfl ?_
        cases h
        exact K
      · rw [if_neg hq19] at h
        refine v_aload_n F dX11_close_89 rfl rfl ?_
        refine gf_X11_658 F dX11_close_90 hp (v := 1605) rfl ?_
        refine v_iload_n F dX11_close_93 rfl rfl ?_
        refine v_iald F dX11_close_94 (ar_X11_85 hX hp) hi14 ?_
        refine v_iconst F dX11_close_95 ⟨by decide, by decide⟩ ?_
        refine v_icmp_eq F dX11_close_96 rfl (fun hq21 => ?_) (fun hq21 => ?_)
        · rw [if_pos hq21] at h
          obtain ⟨x22, ex22, h⟩ := lv_some h
          refine v_iincN F dX11_close_109 (Nat.le_of_ble_eq_true rfl) rfl ex22 (L' := [mA 1545, mI a1, mI v2, mI x22]) rfl ?_
          refine v_goto F dX11_close_112 rfl ?_
          cases h
          exact K
        · rw [if_neg hq21] at h
          refine v_aload_n F dX11_close_99 rfl rfl ?_
          refine gf_X11_658 F dX11_close_100 hp (v := 1605) rfl ?_
          refine v_iload_n F dX11_close_103 rfl rfl ?_
          refine v_iconst F dX11_close_104 ⟨by decide, by decide⟩ ?_
          obtain ⟨d23, ed23, h⟩ := sd_some h
          refine v_iast F dX11_close_105 (ar_X11_85 hX hp) hi14 ?_
          refine v_nD ed23 ?_
          obtain ⟨x24, ex24, h⟩ := lv_some h
          refine v_iincN F dX11_close_106 (Nat.le_of_ble_eq_true rfl) rfl ex24 (L' := [mA 1545, mI a1, mI x24, mI v3]) rfl ?_
          obtain ⟨x25, ex25, h⟩ := lv_some h
          refine v_iincN F dX11_close_109 (Nat.le_of_ble_eq_true rfl) rfl ex25 (L' := [mA 1545, mI a1, mI x24, mI x25]) rfl ?_
          refine v_goto F dX11_close_112 rfl ?_
          cases h
          exact K
theorem fX11_close_63_ok {w : Wd} {l : Launch} {G : Cx} {d m dd : Dt} {a1 v2 v3 : Int} {d' : Dt} {r : Int} {x : (Dt × Int)} (F : Fx w G cX11_close RX11 4 (some .int) { frames := 3, cells := 0, slots := 0, locals := 73 }) (hX : WF dd m) (hp : PB m 1545 11) (h : fX11_close_63 d a1 v2 v3 = some x) (K : (fun q => q = (d', r)) x) : V w l WF G (QM w G WF (some (mI r)) d' m 0 0) d m 0 0 63 [mA 1545, mI a1, mI v2, mI v3] [] := by
  unfold fX11_close_63 at h
  exact loop_ok (P := fX11_close_63P w l G (QM w G WF (some (mI r)) d' m 0 0) m a1) (fun s x hx h1 h2 => fX11_close_63f_ok F hX hp hx (by
    cases x with
    | inl s' => exact h1 s' rfl
    | inr z => cases h2 z rfl; exact K)) h
theorem fX11_close_40_ok {w : Wd} {l : Launch} {G : Cx} {d m dd : Dt} {a1 : Int} {d' : Dt} {r : Int} {x : (Dt × Int)} (F : Fx w G cX11_close RX11 4 (some .int) { frames := 3, cells := 0, slots := 0, locals := 73 }) (hX : WF dd m) (hp : PB m 1545 11) (h : fX11_close_40 d a1 = some x) (K : (fun q => q = (d', r)) x) : V w l WF G (QM w G WF (some (mI r)) d' m 0 0) d m 0 0 40 [mA 1545, mI a1, mU, mU] [] := by
  unfold fX11_close_40 at h
  refine v_aload_n F dX11_close_40 rfl rfl ?_
  refine gf_X11_552 F dX11_close_41 hp (v := 1615) rfl ?_
  refine v_iload_n F dX11_close_44 rfl rfl ?_
  obtain ⟨hi8, h⟩ := ck_some h
  refine v_zald F dX11_close_45 (ar_X11_95 hX hp) hi8 ?_
  refine v_if_eq F dX11_close_46 rfl (fun hq9 => ?_) (fun hq9 => ?_)
  · rw [if_pos hq9] at h
    refine v_aload_n F dX11_close_52 rfl rfl ?_
    refine gf_X11_552 F dX11_close_53 hp (v := 1615) rfl ?_
    refine v_iload_n F dX11_close_56 rfl rfl ?_
    refine v_iconst F dX11_close_57 ⟨by decide, by decide⟩ ?_
    obtain ⟨d10, ed10, h⟩ := sd_some h
    refine v_zast F dX11_close_58 (ar_X11_95 hX hp) hi8 ?_
    refine v_nD ed10 ?_
    refine v_iconst F dX11_close_59 ⟨by decide, by decide⟩ ?_
    refine v_istore_n F dX11_close_60 rfl (Nat.le_of_ble_eq_true rfl) (L' := [mA 1545, mI a1, mI 0, mU]) rfl ?_
    refine v_iconst F dX11_close_61 ⟨by decide, by decide⟩ ?_
    refine v_istore_n F dX11_close_62 rfl (Nat.le_of_ble_eq_true rfl) (L' := [mA 1545, mI a1, mI 0, mI 0]) rfl ?_
    exact fX11_close_63_ok F hX hp h K
  · rw [if_neg hq9] at h
    refine v_bipush F dX11_close_49 rfl ⟨by decide, by decide⟩ ?_
    cases h
    cases (show _ = (d', r) from K)
    exact v_iret F dX11_close_51
theorem vm_X11_close {w : Wd} {l : Launch} {d m : Dt} {a1 : Int} {d' : Dt} {r : Int} (hp : PB m 1545 11) (h : fX11_close d a1 = some (d', r)) : VM w l WF yX11_close cX11_close 4 (some .int) 3 73 0 0 d m [mA 1545, mI a1] (some (mI r)) d' m := by
  obtain ⟨x, h, K⟩ : ∃ x, fX11_close d a1 = some x ∧ x = (d', r) := ⟨_, h, rfl⟩
  refine VM.of (L := [mA 1545, mI a1, mU, mU]) (by decide +kernel) rfl (Nat.le_of_ble_eq_true rfl) fun G F _ => v_fact fun _ hX _ _ => ?_
  unfold fX11_close at h
  refine v_aload_n F dX11_close_0 rfl rfl ?_
  refine v_iload_n F dX11_close_1 rfl rfl ?_
  obtain ⟨x1, hc2, h⟩ := b1_some h
  refine v_callVv (c := 11) F dX11_close_2 cv_X11_737 rfl (PB.ob hp hX (Nat.le_of_ble_eq_true rfl)) (Nat.le_of_ble_eq_true rfl) rfl (vm_X11_isBox hp hc2) rfl (rOk.of rfl) ?_
  refine v_if_ne F dX11_close_5 rfl (fun hq3 => ?_) (fun hq3 => ?_)
  · rw [if_neg hq3] at h
    refine v_aload_n F dX11_close_10 rfl rfl ?_
    refine gf_X11_17 F dX11_close_11 hp ?_
    refine v_aload_n F dX11_close_14 rfl rfl ?_
    refine v_iconst F dX11_close_15 ⟨by decide, by decide⟩ ?_
    obtain ⟨x4, hc5, h⟩ := b1_some h
    refine v_callVv (c := 11) F dX11_close_16 cv_X11_466 rfl (PB.ob hp hX (Nat.le_of_ble_eq_true rfl)) (Nat.le_of_ble_eq_true rfl) rfl (vm_X11_lawIs hp hc5) rfl (rOk.of rfl) ?_
    refine v_icmp_lt F dX11_close_19 rfl (fun hq6 => ?_) (fun hq6 => ?_)
    · rw [if_pos hq6] at h
      refine v_bipush F dX11_close_37 rfl ⟨by decide, by decide⟩ ?_
      cases h
      cases (show _ = (d', r) from K)
      exact v_iret F dX11_close_39
    · rw [if_neg hq6] at h
      refine v_iload_n F dX11_close_22 rfl rfl ?_
      refine v_bipush F dX11_close_23 rfl ⟨by decide, by decide⟩ ?_
      refine v_icmp_ge F dX11_close_25 rfl (fun hq7 => ?_) (fun hq7 => ?_)
      · rw [if_pos hq7] at h
        exact fX11_close_40_ok F hX hp h K
      · rw [if_neg hq7] at h
        refine v_aload_n F dX11_close_28 rfl rfl ?_
        refine gf_X11_652 F dX11_close_29 hp (v := 1602) rfl ?_
        refine v_iload_n F dX11_close_32 rfl rfl ?_
        obtain ⟨hi26, h⟩ := ck_some h
        refine v_zald F dX11_close_33 (ar_X11_81 hX hp) hi26 ?_
        refine v_if_eq F dX11_close_34 rfl (fun hq27 => ?_) (fun hq27 => ?_)
        · rw [if_pos hq27] at h
          exact fX11_close_40_ok F hX hp h K
        · rw [if_neg hq27] at h
          refine v_bipush F dX11_close_37 rfl ⟨by decide, by decide⟩ ?_
          cases h
          cases (show _ = (d', r) from K)
          exact v_iret F dX11_close_39
  · rw [if_pos hq3] at h
    refine v_iconst F dX11_close_8 ⟨by decide, by decide⟩ ?_
    cases h
    cases (show _ = (d', r) from K)
    exact v_iret F dX11_close_9
theorem vm_X0_issue {w : Wd} {l : Launch} {d m : Dt} {a1 a2 : Int} {r : Int} (hp : PB m 1 0) (h : fX0_issue d a1 a2 = some r) : VM w l WF yX0_issue cX0_issue 4 (some .int) 2 43 0 0 d m [mA 1, mI a1, mI a2] (some (mI r)) d m := by
  obtain ⟨x, h, K⟩ : ∃ x, fX0_issue d a1 a2 = some x ∧ x = r := ⟨_, h, rfl⟩
  refine VM.of (L := [mA 1, mI a1, mI a2, mU]) (by decide +kernel) rfl (Nat.le_of_ble_eq_true rfl) fun G F _ => v_fact fun _ hX _ _ => ?_
  unfold fX0_issue at h
  refine v_aload_n F dX0_issue_0 rfl rfl ?_
  refine v_iload_n F dX0_issue_1 rfl rfl ?_
  refine v_callVv (c := 0) F dX0_issue_2 cv_X0_502 rfl (PB.ob hp hX (Nat.le_of_ble_eq_true rfl)) (Nat.le_of_ble_eq_true rfl) rfl (vm_X0_isIssue hp) rfl (rOk.of rfl) ?_
  refine v_if_ne F dX0_issue_5 rfl (fun hq1 => ?_) (fun hq1 => ?_)
  · rw [if_neg hq1] at h
    refine v_aload_n F dX0_issue_10 rfl rfl ?_
    refine gf_X0_111 F dX0_issue_11 hp (v := 76) rfl ?_
    refine v_iload_n F dX0_issue_14 rfl rfl ?_
    obtain ⟨hi2, h⟩ := ck_some h
    obtain ⟨x3, ex3, h⟩ := lv_some h
    obtain ⟨hn5, h⟩ := ck_some h
    refine v_aaldN (t := 112) (c := 14) F dX0_issue_15 (ar_X0_31 hX hp) (Nat.le_of_ble_eq_true rfl) rfl rfl rfl rfl rfl hi2 ex3 fun hr4 => ?_
    have x3p := hr4.resolve_left hn5
    refine v_astore_n F dX0_issue_16 rfl (Nat.le_of_ble_eq_true rfl) (L' := [mA 1, mI a1, mI a2, mA x3]) rfl ?_
    refine v_iload_n F dX0_issue_17 rfl rfl ?_
    by_cases hq6 : a2 = 0
    · rw [if_pos hq6] at h
      refine v_tableIn F dX0_issue_18 hq6 (by decide) (by decide) rfl rfl ?_
      refine v_aload_n F dX0_issue_56 rfl rfl ?_
      refine gf_X0_449 F dX0_issue_57 x3p ?_
      cases h
      cases (show _ = r from K)
      exact v_iret F dX0_issue_60
    · rw [if_neg hq6] at h
      by_cases hq7 : a2 = 1
      · rw [if_pos hq7] at h
        refine v_tableIn F dX0_issue_18 hq7 (by decide) (by decide) rfl rfl ?_
        refine v_aload_n F dX0_issue_61 rfl rfl ?_
        refine gf_X0_442 F dX0_issue_62 x3p ?_
        cases h
        cases (show _ = r from K)
        exact v_iret F dX0_issue_65
      · rw [if_neg hq7] at h
        by_cases hq8 : a2 = 2
        · rw [if_pos hq8] at h
          refine v_tableIn F dX0_issue_18 hq8 (by decide) (by decide) rfl rfl ?_
          refine v_aload_n F dX0_issue_66 rfl rfl ?_
          refine gf_X0_445 F dX0_issue_67 x3p ?_
          cases h
          cases (show _ = r from K)
          exact v_iret F dX0_issue_70
        · rw [if_neg hq8] at h
          by_cases hq9 : a2 = 3
          · rw [if_pos hq9] at h
            refine v_tableIn F dX0_issue_18 hq9 (by decide) (by decide) rfl rfl ?_
            refine v_aload_n F dX0_issue_71 rfl rfl ?_
            refine gf_X0_529 F dX0_issue_72 x3p ?_
            cases h
            cases (show _ = r from K)
            exact v_iret F dX0_issue_75
          · rw [if_neg hq9] at h
            by_cases hq10 : a2 = 4
            · rw [if_pos hq10] at h
              refine v_tableIn F dX0_issue_18 hq10 (by decide) (by decide) rfl rfl ?_
              refine v_aload_n F dX0_issue_76 rfl rfl ?_
              refine gf_X0_446 F dX0_issue_77 x3p ?_
              refine v_if_eq F dX0_issue_80 rfl (fun hq11 => ?_) (fun hq11 => ?_)
              · rw [if_pos hq11] at h
                refine v_iconst F dX0_issue_87 ⟨by decide, by decide⟩ ?_
                cases h
                cases (show _ = r from K)
                exact v_iret F dX0_issue_88
              · rw [if_neg hq11] at h
                refine v_iconst F dX0_issue_83 ⟨by decide, by decide⟩ ?_
                refine v_goto F dX0_issue_84 rfl ?_
                cases h
                cases (show _ = r from K)
                exact v_iret F dX0_issue_88
            · rw [if_neg hq10] at h
              by_cases hq12 : a2 = 5
              · rw [if_pos hq12] at h
                refine v_tableIn F dX0_issue_18 hq12 (by decide) (by decide) rfl rfl ?_
                refine v_aload_n F dX0_issue_89 rfl rfl ?_
                refine gf_X0_462 F dX0_issue_90 x3p ?_
                cases h
                cases (show _ = r from K)
                exact v_iret F dX0_issue_93
              · rw [if_neg hq12] at h
                refine v_tableOut F dX0_issue_18 (by omega) rfl ?_
                refine v_bipush F dX0_issue_94 rfl ⟨by decide, by decide⟩ ?_
                cases h
                cases (show _ = r from K)
                exact v_iret F dX0_issue_96
  · rw [if_pos hq1] at h
    refine v_iconst F dX0_issue_8 ⟨by decide, by decide⟩ ?_
    cases h
    cases (show _ = r from K)
    exact v_iret F dX0_issue_9
theorem vm_X11_issue {w : Wd} {l : Launch} {d m : Dt} {a1 a2 : Int} {r : Int} (hp : PB m 1545 11) (h : fX11_issue d a1 a2 = some r) : VM w l WF yX11_issue cX11_issue 3 (some .int) 2 46 0 0 d m [mA 1545, mI a1, mI a2] (some (mI r)) d m := by
  obtain ⟨x, h, K⟩ : ∃ x, fX11_issue d a1 a2 = some x ∧ x = r := ⟨_, h, rfl⟩
  refine VM.of (L := [mA 1545, mI a1, mI a2]) (by decide +kernel) rfl (Nat.le_of_ble_eq_true rfl) fun G F _ => v_fact fun _ hX _ _ => ?_
  unfold fX11_issue at h
  refine v_aload_n F dX11_issue_0 rfl rfl ?_
  refine v_iload_n F dX11_issue_1 rfl rfl ?_
  refine v_callVv (c := 11) F dX11_issue_2 cv_X11_710 rfl (PB.ob hp hX (Nat.le_of_ble_eq_true rfl)) (Nat.le_of_ble_eq_true rfl) rfl (vm_X11_isIssue hp) rfl (rOk.of rfl) ?_
  refine v_if_ne F dX11_issue_5 rfl (fun hq1 => ?_) (fun hq1 => ?_)
  · rw [if_neg hq1] at h
    refine v_iload_n F dX11_issue_10 rfl rfl ?_
    by_cases hq2 : a2 = 0
    · rw [if_pos hq2] at h
      refine v_tableIn F dX11_issue_11 hq2 (by decide) (by decide) rfl rfl ?_
      refine v_aload_n F dX11_issue_48 rfl rfl ?_
      refine gf_X11_691 F dX11_issue_49 hp (v := 1603) rfl ?_
      refine v_iload_n F dX11_issue_52 rfl rfl ?_
      obtain ⟨hi3, h⟩ := ck_some h
      refine v_iald F dX11_issue_53 (ar_X11_83 hX hp) hi3 ?_
      cases h
      cases (show _ = r from K)
      exact v_iret F dX11_issue_54
    · rw [if_neg hq2] at h
      by_cases hq4 : a2 = 1
      · rw [if_pos hq4] at h
        refine v_tableIn F dX11_issue_11 hq4 (by decide) (by decide) rfl rfl ?_
        refine v_aload_n F dX11_issue_55 rfl rfl ?_
        refine gf_X11_661 F dX11_issue_56 hp (v := 1604) rfl ?_
        refine v_iload_n F dX11_issue_59 rfl rfl ?_
        obtain ⟨hi5, h⟩ := ck_some h
        refine v_iald F dX11_issue_60 (ar_X11_84 hX hp) hi5 ?_
        cases h
        cases (show _ = r from K)
        exact v_iret F dX11_issue_61
      · rw [if_neg hq4] at h
        by_cases hq6 : a2 = 2
        · rw [if_pos hq6] at h
          refine v_tableIn F dX11_issue_11 hq6 (by decide) (by decide) rfl rfl ?_
          refine v_aload_n F dX11_issue_62 rfl rfl ?_
          refine gf_X11_658 F dX11_issue_63 hp (v := 1605) rfl ?_
          refine v_iload_n F dX11_issue_66 rfl rfl ?_
          obtain ⟨hi7, h⟩ := ck_some h
          refine v_iald F dX11_issue_67 (ar_X11_85 hX hp) hi7 ?_
          cases h
          cases (show _ = r from K)
          exact v_iret F dX11_issue_68
        · rw [if_neg hq6] at h
          by_cases hq8 : a2 = 3
          · rw [if_pos hq8] at h
            refine v_tableIn F dX11_issue_11 hq8 (by decide) (by decide) rfl rfl ?_
            refine v_aload_n F dX11_issue_69 rfl rfl ?_
            refine gf_X11_673 F dX11_issue_70 hp (v := 1606) rfl ?_
            refine v_iload_n F dX11_issue_73 rfl rfl ?_
            obtain ⟨hi9, h⟩ := ck_some h
            refine v_iald F dX11_issue_74 (ar_X11_86 hX hp) hi9 ?_
            cases h
            cases (show _ = r from K)
            exact v_iret F dX11_issue_75
          · rw [if_neg hq8] at h
            by_cases hq10 : a2 = 4
            · rw [if_pos hq10] at h
              refine v_tableIn F dX11_issue_11 hq10 (by decide) (by decide) rfl rfl ?_
              refine v_aload_n F dX11_issue_76 rfl rfl ?_
              refine gf_X11_667 F dX11_issue_77 hp (v := 1607) rfl ?_
              refine v_iload_n F dX11_issue_80 rfl rfl ?_
              obtain ⟨hi11, h⟩ := ck_some h
              refine v_zald F dX11_issue_81 (ar_X11_87 hX hp) hi11 ?_
              refine v_if_eq F dX11_issue_82 rfl (fun hq12 => ?_) (fun hq12 => ?_)
              · rw [if_pos hq12] at h
                refine v_iconst F dX11_issue_89 ⟨by decide, by decide⟩ ?_
                cases h
                cases (show _ = r from K)
                exact v_iret F dX11_issue_90
              · rw [if_neg hq12] at h
                refine v_iconst F dX11_issue_85 ⟨by decide, by decide⟩ ?_
                refine v_goto F dX11_issue_86 rfl ?_
                cases h
                cases (show _ = r from K)
                exact v_iret F dX11_issue_90
            · rw [if_neg hq10] at h
              by_cases hq13 : a2 = 5
              · rw [if_pos hq13] at h
                refine v_tableIn F dX11_issue_11 hq13 (by decide) (by decide) rfl rfl ?_
                refine v_aload_n F dX11_issue_91 rfl rfl ?_
                refine gf_X11_697 F dX11_issue_92 hp (v := 1608) rfl ?_
                refine v_iload_n F dX11_issue_95 rfl rfl ?_
                obtain ⟨hi14, h⟩ := ck_some h
                refine v_iald F dX11_issue_96 (ar_X11_88 hX hp) hi14 ?_
                cases h
                cases (show _ = r from K)
                exact v_iret F dX11_issue_97
              · rw [if_neg hq13] at h
                refine v_tableOut F dX11_issue_11 (by omega) rfl ?_
                refine v_bipush F dX11_issue_98 rfl ⟨by decide, by decide⟩ ?_
                cases h
                cases (show _ = r from K)
                exact v_iret F dX11_issue_100
  · rw [if_pos hq1] at h
    refine v_iconst F dX11_issue_8 ⟨by decide, by decide⟩ ?_
    cases h
    cases (show _ = r from K)
    exact v_iret F dX11_issue_9
theorem vm_X0_knows {w : Wd} {l : Launch} {d m : Dt} {a1 a2 : Int} {r : Int} (hp : PB m 1 0) (h : fX0_knows d a1 a2 = some r) : VM w l WF yX0_knows cX0_knows 3 (some .int) 2 43 0 0 d m [mA 1, mI a1, mI a2] (some (mI r)) d m := by
  obtain ⟨x, h, K⟩ : ∃ x, fX0_knows d a1 a2 = some x ∧ x = r := ⟨_, h, rfl⟩
  refine VM.of (L := [mA 1, mI a1, mI a2]) (by decide +kernel) rfl (Nat.le_of_ble_eq_true rfl) fun G F _ => v_fact fun _ hX _ _ => ?_
  unfold fX0_knows at h
  refine v_aload_n F dX0_knows_0 rfl rfl ?_
  refine v_iload_n F dX0_knows_1 rfl rfl ?_
  refine v_callVv (c := 0) F dX0_knows_2 cv_X0_430 rfl (PB.ob hp hX (Nat.le_of_ble_eq_true rfl)) (Nat.le_of_ble_eq_true rfl) rfl (vm_X0_isStation hp) rfl (rOk.of rfl) ?_
  refine v_if_eq F dX0_knows_5 rfl (fun hq1 => ?_) (fun hq1 => ?_)
  · rw [if_pos hq1] at h
    refine v_iconst F dX0_knows_25 ⟨by decide, by decide⟩ ?_
    cases h
    cases (show _ = r from K)
    exact v_iret F dX0_knows_26
  · rw [if_neg hq1] at h
    refine v_aload_n F dX0_knows_8 rfl rfl ?_
    refine v_iload_n F dX0_knows_9 rfl rfl ?_
    refine v_callVv (c := 0) F dX0_knows_10 cv_X0_502 rfl (PB.ob hp hX (Nat.le_of_ble_eq_true rfl)) (Nat.le_of_ble_eq_true rfl) rfl (vm_X0_isIssue hp) rfl (rOk.of rfl) ?_
    refine v_if_eq F dX0_knows_13 rfl (fun hq2 => ?_) (fun hq2 => ?_)
    · rw [if_pos hq2] at h
      refine v_iconst F dX0_knows_25 ⟨by decide, by decide⟩ ?_
      cases h
      cases (show _ = r from K)
      exact v_iret F dX0_knows_26
    · rw [if_neg hq2] at h
      refine v_aload_n F dX0_knows_16 rfl rfl ?_
      refine v_iload_n F dX0_knows_17 rfl rfl ?_
      refine v_iload_n F dX0_knows_18 rfl rfl ?_
      obtain ⟨x3, hc4, h⟩ := b1_some h
      refine v_callVv (c := 0) F dX0_knows_19 cv_X0_439 rfl (PB.ob hp hX (Nat.le_of_ble_eq_true rfl)) (Nat.le_of_ble_eq_true rfl) rfl (vm_X0_knownTo hp hc4) rfl (rOk.of rfl) ?_
      refine v_goto F dX0_knows_22 rfl ?_
      cases h
      cases (show _ = r from K)
      exact v_iret F dX0_knows_26
theorem vm_X11_knows {w : Wd} {l : Launch} {d m : Dt} {a1 a2 : Int} {r : Int} (hp : PB m 1545 11) (h : fX11_knows d a1 a2 = some r) : VM w l WF yX11_knows cX11_knows 3 (some .int) 2 46 0 0 d m [mA 1545, mI a1, mI a2] (some (mI r)) d m := by
  obtain ⟨x, h, K⟩ : ∃ x, fX11_knows d a1 a2 = some x ∧ x = r := ⟨_, h, rfl⟩
  refine VM.of (L := [mA 1545, mI a1, mI a2]) (by decide +kernel) rfl (Nat.le_of_ble_eq_true rfl) fun G F _ => v_fact fun _ hX _ _ => ?_
  unfold fX11_knows at h
  refine v_aload_n F dX11_knows_0 rfl rfl ?_
  refine v_iload_n F dX11_knows_1 rfl rfl ?_
  refine v_callVv (c := 11) F dX11_knows_2 cv_X11_655 rfl (PB.ob hp hX (Nat.le_of_ble_eq_true rfl)) (Nat.le_of_ble_eq_true rfl) rfl (vm_X11_isStation hp) rfl (rOk.of rfl) ?_
  refine v_if_eq F dX11_knows_5 rfl (fun hq1 => ?_) (fun hq1 => ?_)
  · rw [if_pos hq1] at h
    refine v_iconst F dX11_knows_25 ⟨by decide, by decide⟩ ?_
    cases h
    cases (show _ = r from K)
    exact v_iret F dX11_knows_26
  · rw [if_neg hq1] at h
    refine v_aload_n F dX11_knows_8 rfl rfl ?_
    refine v_iload_n F dX11_knows_9 rfl rfl ?_
    refine v_callVv (c := 11) F dX11_knows_10 cv_X11_710 rfl (PB.ob hp hX (Nat.le_of_ble_eq_true rfl)) (Nat.le_of_ble_eq_true rfl) rfl (vm_X11_isIssue hp) rfl (rOk.of rfl) ?_
    refine v_if_eq F dX11_knows_13 rfl (fun hq2 => ?_) (fun hq2 => ?_)
    · rw [if_pos hq2] at h
      refine v_iconst F dX11_knows_25 ⟨by decide, by decide⟩ ?_
      cases h
      cases (show _ = r from K)
      exact v_iret F dX11_knows_26
    · rw [if_neg hq2] at h
      refine v_aload_n F dX11_knows_16 rfl rfl ?_
      refine v_iload_n F dX11_knows_17 rfl rfl ?_
      refine v_iload_n F dX11_knows_18 rfl rfl ?_
      obtain ⟨x3, hc4, h⟩ := b1_some h
      refine v_callVv (c := 11) F dX11_knows_19 cv_X11_670 rfl (PB.ob hp hX (Nat.le_of_ble_eq_true rfl)) (Nat.le_of_ble_eq_true rfl) rfl (vm_X11_known hp hc4) rfl (rOk.of rfl) ?_
      refine v_goto F dX11_knows_22 rfl ?_
      cases h
      cases (show _ = r from K)
      exact v_iret F dX11_knows_26
theorem vm_X0_box {w : Wd} {l : Launch} {d m : Dt} {a1 a2 : Int} {r : Int} (hp : PB m 1 0) (h : fX0_box d a1 a2 = some r) : VM w l WF yX0_box cX0_box 3 (some .int) 3 64 0 0 d m [mA 1, mI a1, mI a2] (some (mI r)) d m := by
  obtain ⟨x, h, K⟩ : ∃ x, fX0_box d a1 a2 = some x ∧ x = r := ⟨_, h, rfl⟩
  refine VM.of (L := [mA 1, mI a1, mI a2]) (by decide +kernel) rfl (Nat.le_of_ble_eq_true rfl) fun G F _ => v_fact fun _ hX _ _ => ?_
  unfold fX0_box at h
  refine v_aload_n F dX0_box_0 rfl rfl ?_
  refine v_iload_n F dX0_box_1 rfl rfl ?_
  obtain ⟨x1, hc2, h⟩ := b1_some h
  refine v_callVv (c := 0) F dX0_box_2 cv_X0_523 rfl (PB.ob hp hX (Nat.le_of_ble_eq_true rfl)) (Nat.le_of_ble_eq_true rfl) rfl (vm_X0_isBox hp hc2) rfl (rOk.of rfl) ?_
  refine v_if_ne F dX0_box_5 rfl (fun hq3 => ?_) (fun hq3 => ?_)
  · rw [if_neg hq3] at h
    refine v_iload_n F dX0_box_10 rfl rfl ?_
    by_cases hq4 : a2 = 0
    · rw [if_pos hq4] at h
      refine v_tableIn F dX0_box_11 hq4 (by decide) (by decide) rfl rfl ?_
      refine v_aload_n F dX0_box_40 rfl rfl ?_
      refine gf_X0_120 F dX0_box_41 hp (v := 78) rfl ?_
      refine v_iload_n F dX0_box_44 rfl rfl ?_
      obtain ⟨hi5, h⟩ := ck_some h
      refine v_aaldF (c := 0) (k := 34) F dX0_box_45 hp (Nat.le_of_ble_eq_true rfl) (Nat.le_of_ble_eq_true rfl) (by decide) (by decide) rfl (ar_X0_34 hX hp) (Nat.le_of_ble_eq_true rfl) rfl rfl rfl rfl hi5 (v := (677 + 124 * a1)) (by show 1 + 676 + 124 * a1 = _; omega) ?_
      refine gf_X0_532 F dX0_box_46 (ae_X0_34 (i := a1) hX hp hi5 (v := (677 + 124 * a1)) (by omega)) ?_
      cases h
      cases (show _ = r from K)
      exact v_iret F dX0_box_49
    · rw [if_neg hq4] at h
      by_cases hq6 : a2 = 1
      · rw [if_pos hq6] at h
        refine v_tableIn F dX0_box_11 hq6 (by decide) (by decide) rfl rfl ?_
        refine v_aload_n F dX0_box_50 rfl rfl ?_
        refine gf_X0_120 F dX0_box_51 hp (v := 78) rfl ?_
        refine v_iload_n F dX0_box_54 rfl rfl ?_
        obtain ⟨hi7, h⟩ := ck_some h
        refine v_aaldF (c := 0) (k := 34) F dX0_box_55 hp (Nat.le_of_ble_eq_true rfl) (Nat.le_of_ble_eq_true rfl) (by decide) (by decide) rfl (ar_X0_34 hX hp) (Nat.le_of_ble_eq_true rfl) rfl rfl rfl rfl hi7 (v := (677 + 124 * a1)) (by show 1 + 676 + 124 * a1 = _; omega) ?_
        refine gf_X0_436 F dX0_box_56 (ae_X0_34 (i := a1) hX hp hi7 (v := (677 + 124 * a1)) (by omega)) ?_
        refine v_if_eq F dX0_box_59 rfl (fun hq8 => ?_) (fun hq8 => ?_)
        · rw [if_pos hq8] at h
          refine v_iconst F dX0_box_66 ⟨by decide, by decide⟩ ?_
          cases h
          cases (show _ = r from K)
          exact v_iret F dX0_box_67
        · rw [if_neg hq8] at h
          refine v_iconst F dX0_box_62 ⟨by decide, by decide⟩ ?_
          refine v_goto F dX0_box_63 rfl ?_
          cases h
          cases (show _ = r from K)
          exact v_iret F dX0_box_67
      · rw [if_neg hq6] at h
        by_cases hq9 : a2 = 2
        · rw [if_pos hq9] at h
          refine v_tableIn F dX0_box_11 hq9 (by decide) (by decide) rfl rfl ?_
          refine v_aload_n F dX0_box_68 rfl rfl ?_
          refine gf_X0_120 F dX0_box_69 hp (v := 78) rfl ?_
          refine v_iload_n F dX0_box_72 rfl rfl ?_
          obtain ⟨hi10, h⟩ := ck_some h
          refine v_aaldF (c := 0) (k := 34) F dX0_box_73 hp (Nat.le_of_ble_eq_true rfl) (Nat.le_of_ble_eq_true rfl) (by decide) (by decide) rfl (ar_X0_34 hX hp) (Nat.le_of_ble_eq_true rfl) rfl rfl rfl rfl hi10 (v := (677 + 124 * a1)) (by show 1 + 676 + 124 * a1 = _; omega) ?_
          refine gf_X0_535 F dX0_box_74 (ae_X0_34 (i := a1) hX hp hi10 (v := (677 + 124 * a1)) (by omega)) ?_
          refine v_if_eq F dX0_box_77 rfl (fun hq11 => ?_) (fun hq11 => ?_)
          · rw [if_pos hq11] at h
            refine v_iconst F dX0_box_84 ⟨by decide, by decide⟩ ?_
            cases h
            cases (show _ = r from K)
            exact v_iret F dX0_box_85
          · rw [if_neg hq11] at h
            refine v_iconst F dX0_box_80 ⟨by decide, by decide⟩ ?_
            refine v_goto F dX0_box_81 rfl ?_
            cases h
            cases (show _ = r from K)
            exact v_iret F dX0_box_85
        · rw [if_neg hq9] at h
          by_cases hq12 : a2 = 3
          · rw [if_pos hq12] at h
            refine v_tableIn F dX0_box_11 hq12 (by decide) (by decide) rfl rfl ?_
            refine v_iload_n F dX0_box_86 rfl rfl ?_
            refine v_bipush F dX0_box_87 rfl ⟨by decide, by decide⟩ ?_
            refine v_icmp_eq F dX0_box_89 rfl (fun hq13 => ?_) (fun hq13 => ?_)
            · rw [if_pos hq13] at h
              refine v_iconst F dX0_box_105 ⟨by decide, by decide⟩ ?_
              cases h
              cases (show _ = r from K)
              exact v_iret F dX0_box_106
            · rw [if_neg hq13] at h
              refine v_aload_n F dX0_box_92 rfl rfl ?_
              refine gf_X0_101 F dX0_box_93 hp (v := 68) rfl ?_
              refine v_iload_n F dX0_box_96 rfl rfl ?_
              obtain ⟨hi14, h⟩ := ck_some h
              refine v_zald F dX0_box_97 (ar_X0_28 hX hp) hi14 ?_
              refine v_if_eq F dX0_box_98 rfl (fun hq15 => ?_) (fun hq15 => ?_)
              · rw [if_pos hq15] at h
                refine v_iconst F dX0_box_105 ⟨by decide, by decide⟩ ?_
                cases h
                cases (show _ = r from K)
                exact v_iret F dX0_box_106
              · rw [if_neg hq15] at h
                refine v_iconst F dX0_box_101 ⟨by decide, by decide⟩ ?_
                refine v_goto F dX0_box_102 rfl ?_
                cases h
                cases (show _ = r from K)
                exact v_iret F dX0_box_106
          · rw [if_neg hq12] at h
            refine v_tableOut F dX0_box_11 (by omega) rfl ?_
            refine v_bipush F dX0_box_107 rfl ⟨by decide, by decide⟩ ?_
            cases h
            cases (show _ = r from K)
            exact v_iret F dX0_box_109
  · rw [if_pos hq3] at h
    refine v_iconst F dX0_box_8 ⟨by decide, by decide⟩ ?_
    cases h
    cases (show _ = r from K)
    exact v_iret F dX0_box_9
theorem vm_X11_box {w : Wd} {l : Launch} {d m : Dt} {a1 a2 : Int} {r : Int} (hp : PB m 1545 11) (h : fX11_box d a1 a2 = some r) : VM w l WF yX11_box cX11_box 3 (some .int) 3 67 0 0 d m [mA 1545, mI a1, mI a2] (some (mI r)) d m := by
  obtain ⟨x, h, K⟩ : ∃ x, fX11_box d a1 a2 = some x ∧ x = r := ⟨_, h, rfl⟩
  refine VM.of (L := [mA 1545, mI a1, mI a2]) (by decide +kernel) rfl (Nat.le_of_ble_eq_true rfl) fun G F _ => v_fact fun _ hX _ _ => ?_
  unfold fX11_box at h
  refine v_aload_n F dX11_box_0 rfl rfl ?_
  refine v_iload_n F dX11_box_1 rfl rfl ?_
  obtain ⟨x1, hc2, h⟩ := b1_some h
  refine v_callVv (c := 11) F dX11_box_2 cv_X11_737 rfl (PB.ob hp hX (Nat.le_of_ble_eq_true rfl)) (Nat.le_of_ble_eq_true rfl) rfl (vm_X11_isBox hp hc2) rfl (rOk.of rfl) ?_
  refine v_if_ne F dX11_box_5 rfl (fun hq3 => ?_) (fun hq3 => ?_)
  · rw [if_neg hq3] at h
    refine v_iload_n F dX11_box_10 rfl rfl ?_
    by_cases hq4 : a2 = 0
    · rw [if_pos hq4] at h
      refine v_tableIn F dX11_box_11 hq4 (by decide) (by decide) rfl rfl ?_
      refine v_aload_n F dX11_box_40 rfl rfl ?_
      refine gf_X11_549 F dX11_box_41 hp (v := 1613) rfl ?_
      refine v_iload_n F dX11_box_44 rfl rfl ?_
      obtain ⟨hi5, h⟩ := ck_some h
      refine v_iald F dX11_box_45 (ar_X11_93 hX hp) hi5 ?_
      cases h
      cases (show _ = r from K)
      exact v_iret F dX11_box_46
    · rw [if_neg hq4] at h
      by_cases hq6 : a2 = 1
      · rw [if_pos hq6] at h
        refine v_tableIn F dX11_box_11 hq6 (by decide) (by decide) rfl rfl ?_
        refine v_aload_n F dX11_box_47 rfl rfl ?_
        refine gf_X11_552 F dX11_box_48 hp (v := 1615) rfl ?_
        refine v_iload_n F dX11_box_51 rfl rfl ?_
        obtain ⟨hi7, h⟩ := ck_some h
        refine v_zald F dX11_box_52 (ar_X11_95 hX hp) hi7 ?_
        refine v_if_eq F dX11_box_53 rfl (fun hq8 => ?_) (fun hq8 => ?_)
        · rw [if_pos hq8] at h
          refine v_iconst F dX11_box_60 ⟨by decide, by decide⟩ ?_
          cases h
          cases (show _ = r from K)
          exact v_iret F dX11_box_61
        · rw [if_neg hq8] at h
          refine v_iconst F dX11_box_56 ⟨by decide, by decide⟩ ?_
          refine v_goto F dX11_box_57 rfl ?_
          cases h
          cases (show _ = r from K)
          exact v_iret F dX11_box_61
      · rw [if_neg hq6] at h
        by_cases hq9 : a2 = 2
        · rw [if_pos hq9] at h
          refine v_tableIn F dX11_box_11 hq9 (by decide) (by decide) rfl rfl ?_
          refine v_aload_n F dX11_box_62 rfl rfl ?_
          refine gf_X11_555 F dX11_box_63 hp (v := 1616) rfl ?_
          refine v_iload_n F dX11_box_66 rfl rfl ?_
          obtain ⟨hi10, h⟩ := ck_some h
          refine v_zald F dX11_box_67 (ar_X11_96 hX hp) hi10 ?_
          refine v_if_eq F dX11_box_68 rfl (fun hq11 => ?_) (fun hq11 => ?_)
          · rw [if_pos hq11] at h
            refine v_iconst F dX11_box_75 ⟨by decide, by decide⟩ ?_
            cases h
            cases (show _ = r from K)
            exact v_iret F dX11_box_76
          · rw [if_neg hq11] at h
            refine v_iconst F dX11_box_71 ⟨by decide, by decide⟩ ?_
            refine v_goto F dX11_box_72 rfl ?_
            cases h
            cases (show _ = r from K)
            exact v_iret F dX11_box_76
        · rw [if_neg hq9] at h
          by_cases hq12 : a2 = 3
          · rw [if_pos hq12] at h
            refine v_tableIn F dX11_box_11 hq12 (by decide) (by decide) rfl rfl ?_
            refine v_iload_n F dX11_box_77 rfl rfl ?_
            refine v_bipush F dX11_box_78 rfl ⟨by decide, by decide⟩ ?_
            refine v_icmp_ge F dX11_box_80 rfl (fun hq13 => ?_) (fun hq13 => ?_)
            · rw [if_pos hq13] at h
              refine v_iconst F dX11_box_96 ⟨by decide, by decide⟩ ?_
              cases h
              cases (show _ = r from K)
              exact v_iret F dX11_box_97
            · rw [if_neg hq13] at h
              refine v_aload_n F dX11_box_83 rfl rfl ?_
              refine gf_X11_652 F dX11_box_84 hp (v := 1602) rfl ?_
              refine v_iload_n F dX11_box_87 rfl rfl ?_
              obtain ⟨hi14, h⟩ := ck_some h
              refine v_zald F dX11_box_88 (ar_X11_81 hX hp) hi14 ?_
              refine v_if_eq F dX11_box_89 rfl (fun hq15 => ?_) (fun hq15 => ?_)
              · rw [if_pos hq15] at h
                refine v_iconst F dX11_box_96 ⟨by decide, by decide⟩ ?_
                cases h
                cases (show _ = r from K)
                exact v_iret F dX11_box_97
              · rw [if_neg hq15] at h
                refine v_iconst F dX11_box_92 ⟨by decide, by decide⟩ ?_
                refine v_goto F dX11_box_93 rfl ?_
                cases h
                cases (show _ = r from K)
                exact v_iret F dX11_box_97
          · rw [if_neg hq12] at h
            refine v_tableOut F dX11_box_11 (by omega) rfl ?_
            refine v_bipush F dX11_box_98 rfl ⟨by decide, by decide⟩ ?_
            cases h
            cases (show _ = r from K)
            exact v_iret F dX11_box_100
  · rw [if_pos hq3] at h
    refine v_iconst F dX11_box_8 ⟨by decide, by decide⟩ ?_
    cases h
    cases (show _ = r from K)
    exact v_iret F dX11_box_9
theorem vm_X0_isField {w : Wd} {l : Launch} {d m : Dt} {a1 a2 a3 : Int} {r : Int} (hp : PB m 1 0) (h : fX0_isField d a1 a2 a3 = some r) : VM w l WF yX0_isField cX0_isField 4 (some .boolean) 3 64 0 0 d m [mA 1, mI a1, mI a2, mI a3] (some (mI r)) d m := by
  obtain ⟨x, h, K⟩ : ∃ x, fX0_isField d a1 a2 a3 = some x ∧ x = r := ⟨_, h, rfl⟩
  refine VM.of (L := [mA 1, mI a1, mI a2, mI a3]) (by decide +kernel) rfl (Nat.le_of_ble_eq_true rfl) fun G F _ => v_fact fun _ hX _ _ => ?_
  unfold fX0_isField at h
  refine v_aload_n F dX0_isField_0 rfl rfl ?_
  refine v_iload_n F dX0_isField_1 rfl rfl ?_
  obtain ⟨x1, hc2, h⟩ := b1_some h
  refine v_callVv (c := 0) F dX0_isField_2 cv_X0_523 rfl (PB.ob hp hX (Nat.le_of_ble_eq_true rfl)) (Nat.le_of_ble_eq_true rfl) rfl (vm_X0_isBox hp hc2) rfl (rOk.of rfl) ?_
  refine v_if_eq F dX0_isField_5 rfl (fun hq3 => ?_) (fun hq3 => ?_)
  · rw [if_pos hq3] at h
    refine v_iconst F dX0_isField_56 ⟨by decide, by decide⟩ ?_
    cases h
    cases (show _ = r from K)
    exact v_zret F (Or.inl rfl) dX0_isField_57
  · rw [if_neg hq3] at h
    refine v_iload_n F dX0_isField_8 rfl rfl ?_
    refine v_iconst F dX0_isField_9 ⟨by decide, by decide⟩ ?_
    refine v_aload_n F dX0_isField_10 rfl rfl ?_
    refine gf_X0_120 F dX0_isField_11 hp (v := 78) rfl ?_
    refine v_iload_n F dX0_isField_14 rfl rfl ?_
    obtain ⟨hi4, h⟩ := ck_some h
    refine v_aaldF (c := 0) (k := 34) F dX0_isField_15 hp (Nat.le_of_ble_eq_true rfl) (Nat.le_of_ble_eq_true rfl) (by decide) (by decide) rfl (ar_X0_34 hX hp) (Nat.le_of_ble_eq_true rfl) rfl rfl rfl rfl hi4 (v := (677 + 124 * a1)) (by show 1 + 676 + 124 * a1 = _; omega) ?_
    refine gf_X0_532 F dX0_isField_16 (ae_X0_34 (i := a1) hX hp hi4 (v := (677 + 124 * a1)) (by omega)) ?_
    refine v_iconst F dX0_isField_19 ⟨by decide, by decide⟩ ?_
    refine v_isub F dX0_isField_20 ?_
    refine v_callSv F dX0_isField_21 cs_X0_163 rfl (vm_X0_within) rfl (rOk.of rfl) ?_
    refine v_if_eq F dX0_isField_24 rfl (fun hq5 => ?_) (fun hq5 => ?_)
    · rw [if_pos hq5] at h
      refine v_iconst F dX0_isField_56 ⟨by decide, by decide⟩ ?_
      cases h
      cases (show _ = r from K)
      exact v_zret F (Or.inl rfl) dX0_isField_57
    · rw [if_neg hq5] at h
      refine v_iload_n F dX0_isField_27 rfl rfl ?_
      refine v_iconst F dX0_isField_28 ⟨by decide, by decide⟩ ?_
      refine v_aload_n F dX0_isField_29 rfl rfl ?_
      refine v_aload_n F dX0_isField_30 rfl rfl ?_
      refine gf_X0_120 F dX0_isField_31 hp (v := 78) rfl ?_
      refine v_iload_n F dX0_isField_34 rfl rfl ?_
      refine v_aaldF (c := 0) (k := 34) F dX0_isField_35 hp (Nat.le_of_ble_eq_true rfl) (Nat.le_of_ble_eq_true rfl) (by decide) (by decide) rfl (ar_X0_34 hX hp) (Nat.le_of_ble_eq_true rfl) rfl rfl rfl rfl hi4 (v := (677 + 124 * a1)) (by show 1 + 676 + 124 * a1 = _; omega) ?_
      refine gf_X0_537 F dX0_isField_36 (ae_X0_34 (i := a1) hX hp hi4 (v := (677 + 124 * a1)) (by omega)) (v := ((677 + 124 * a1) + 1)) rfl ?_
      refine v_iload_n F dX0_isField_39 rfl rfl ?_
      obtain ⟨hi6, h⟩ := ck_some h
      refine v_iald F dX0_isField_40 (ar_X10_0 hX (ae_X0_34 (i := a1) hX hp hi4 (v := (677 + 124 * a1)) (by omega))) hi6 ?_
      obtain ⟨x7, hc8, h⟩ := b1_some h
      refine v_callVv (c := 0) F dX0_isField_41 cv_X0_468 rfl (PB.ob hp hX (Nat.le_of_ble_eq_true rfl)) (Nat.le_of_ble_eq_true rfl) rfl (vm_X0_fieldsOf hp hc8) rfl (rOk.of rfl) ?_
      refine v_iconst F dX0_isField_44 ⟨by decide, by decide⟩ ?_
      refine v_isub F dX0_isField_45 ?_
      refine v_callSv F dX0_isField_46 cs_X0_163 rfl (vm_X0_within) rfl (rOk.of rfl) ?_
      refine v_if_eq F dX0_isField_49 rfl (fun hq9 => ?_) (fun hq9 => ?_)
      · rw [if_pos hq9] at h
        refine v_iconst F dX0_isField_56 ⟨by decide, by decide⟩ ?_
        cases h
        cases (show _ = r from K)
        exact v_zret F (Or.inl rfl) dX0_isField_57
      · rw [if_neg hq9] at h
        refine v_iconst F dX0_isField_52 ⟨by decide, by decide⟩ ?_
        refine v_goto F dX0_isField_53 rfl ?_
        cases h
        cases (show _ = r from K)
        exact v_zret F (Or.inr rfl) dX0_isField_57
theorem fX0_paper_56_ok {w : Wd} {l : Launch} {G : Cx} {d m dd : Dt} {a1 a2 a3 v4 : Int} {r : Int} {x : Int} (F : Fx w G cX0_paper RX0 5 (some .int) { frames := 4, cells := 0, slots := 0, locals := 87 }) (hX : WF dd m) (hp : PB m 1 0) (h : fX0_paper_56 d a1 a2 a3 v4 = some x) (K : (fun q => q = r) x) : V w l WF G (QM w G WF (some (mI r)) d m 0 0) d m 0 0 56 [mA 1, mI a1, mI a2, mI a3, mI v4] [] := by
  unfold fX0_paper_56 at h
  refine v_aload_n F dX0_paper_56 rfl rfl ?_
  refine gf_X0_120 F dX0_paper_57 hp (v := 78) rfl ?_
  refine v_iload_n F dX0_paper_60 rfl rfl ?_
  obtain ⟨hi3, h⟩ := ck_some h
  refine v_aaldF (c := 0) (k := 34) F dX0_paper_61 hp (Nat.le_of_ble_eq_true rfl) (Nat.le_of_ble_eq_true rfl) (by decide) (by decide) rfl (ar_X0_34 hX hp) (Nat.le_of_ble_eq_true rfl) rfl rfl rfl rfl hi3 (v := (677 + 124 * a1)) (by show 1 + 676 + 124 * a1 = _; omega) ?_
  refine gf_X0_436 F dX0_paper_62 (ae_X0_34 (i := a1) hX hp hi3 (v := (677 + 124 * a1)) (by omega)) ?_
  refine v_if_ne F dX0_paper_65 rfl (fun hq4 => ?_) (fun hq4 => ?_)
  · rw [if_neg hq4] at h
    refine v_iload F dX0_paper_73 rfl ?_
    refine v_if_eq F dX0_paper_75 rfl (fun hq5 => ?_) (fun hq5 => ?_)
    · rw [if_pos hq5] at h
      refine v_aload_n F dX0_paper_92 rfl rfl ?_
      refine gf_X0_120 F dX0_paper_93 hp (v := 78) rfl ?_
      refine v_iload_n F dX0_paper_96 rfl rfl ?_
      refine v_aaldF (c := 0) (k := 34) F dX0_paper_97 hp (Nat.le_of_ble_eq_true rfl) (Nat.le_of_ble_eq_true rfl) (by decide) (by decide) rfl (ar_X0_34 hX hp) (Nat.le_of_ble_eq_true rfl) rfl rfl rfl rfl hi3 (v := (677 + 124 * a1)) (by show 1 + 676 + 124 * a1 = _; omega) ?_
      refine gf_X0_543 F dX0_paper_98 (ae_X0_34 (i := a1) hX hp hi3 (v := (677 + 124 * a1)) (by omega)) (v := ((677 + 124 * a1) + 2)) rfl ?_
      refine v_iload_n F dX0_paper_101 rfl rfl ?_
      obtain ⟨hi6, h⟩ := ck_some h
      refine v_aaldF (c := 10) (k := 1) F dX0_paper_102 (ae_X0_34 (i := a1) hX hp hi3 (v := (677 + 124 * a1)) (by omega)) (Nat.le_of_ble_eq_true rfl) (Nat.le_of_ble_eq_true rfl) (by decide) (by decide) rfl (ar_X10_1 hX (ae_X0_34 (i := a1) hX hp hi3 (v := (677 + 124 * a1)) (by omega))) (Nat.le_of_ble_eq_true rfl) rfl rfl rfl rfl hi6 (v := (((677 + 124 * a1) + 3) + a2)) (by show (677 + 124 * a1) + 3 + 1 * a2 = _; omega) ?_
      refine v_iload_n F dX0_paper_103 rfl rfl ?_
      obtain ⟨hi7, h⟩ := ck_some h
      refine v_bald F dX0_paper_104 (ae_X10_1 (i := a2) hX (ae_X0_34 (i := a1) hX hp hi3 (v := (677 + 124 * a1)) (by omega)) hi6 (v := (((677 + 124 * a1) + 3) + a2)) (by omega)) hi7 ?_
      cases h
      cases (show _ = r from K)
      exact v_iret F dX0_paper_105
    · rw [if_neg hq5] at h
      refine v_aload_n F dX0_paper_78 rfl rfl ?_
      refine gf_X0_120 F dX0_paper_79 hp (v := 78) rfl ?_
      refine v_iload_n F dX0_paper_82 rfl rfl ?_
      refine v_aaldF (c := 0) (k := 34) F dX0_paper_83 hp (Nat.le_of_ble_eq_true rfl) (Nat.le_of_ble_eq_true rfl) (by decide) (by decide) rfl (ar_X0_34 hX hp) (Nat.le_of_ble_eq_true rfl) rfl rfl rfl rfl hi3 (v := (677 + 124 * a1)) (by show 1 + 676 + 124 * a1 = _; omega) ?_
      refine gf_X0_537 F dX0_paper_84 (ae_X0_34 (i := a1) hX hp hi3 (v := (677 + 124 * a1)) (by omega)) (v := ((677 + 124 * a1) + 1)) rfl ?_
      refine v_iload_n F dX0_paper_87 rfl rfl ?_
      obtain ⟨hi8, h⟩ := ck_some h
      refine v_iald F dX0_paper_88 (ar_X10_0 hX (ae_X0_34 (i := a1) hX hp hi3 (v := (677 + 124 * a1)) (by omega))) hi8 ?_
      refine v_goto F dX0_paper_89 rfl ?_
      cases h
      cases (show _ = r from K)
      exact v_iret F dX0_paper_105
  · rw [if_pos hq4] at h
    refine v_bipush F dX0_paper_68 rfl ⟨by decide, by decide⟩ ?_
    refine v_goto F dX0_paper_70 rfl ?_
    cases h
    cases (show _ = r from K)
    exact v_iret F dX0_paper_105
theorem fX0_paper_37_ok {w : Wd} {l : Launch} {G : Cx} {d m dd : Dt} {a1 a2 a3 s0 : Int} {r : Int} {x : Int} (F : Fx w G cX0_paper RX0 5 (some .int) { frames := 4, cells := 0, slots := 0, locals := 87 }) (hX : WF dd m) (hp : PB m 1 0) (h : fX0_paper_37 d a1 a2 a3 s0 = some x) (K : (fun q => q = r) x) : V w l WF G (QM w G WF (some (mI r)) d m 0 0) d m 0 0 37 [mA 1, mI a1, mI a2, mI a3, mU] [mI s0] := by
  unfold fX0_paper_37 at h
  refine v_istore F dX0_paper_37 (Nat.le_of_ble_eq_true rfl) (L' := [mA 1, mI a1, mI a2, mI a3, mI s0]) rfl ?_
  refine v_iload F dX0_paper_39 rfl ?_
  refine v_if_ne F dX0_paper_41 rfl (fun hq2 => ?_) (fun hq2 => ?_)
  · rw [if_neg hq2] at h
    exact fX0_paper_56_ok F hX hp h K
  · rw [if_pos hq2] at h
    refine v_aload_n F dX0_paper_44 rfl rfl ?_
    refine v_iload_n F dX0_paper_45 rfl rfl ?_
    refine v_iload_n F dX0_paper_46 rfl rfl ?_
    refine v_iload_n F dX0_paper_47 rfl rfl ?_
    obtain ⟨x9, hc10, h⟩ := b1_some h
    refine v_callVv (c := 0) F dX0_paper_48 cv_X0_540 rfl (PB.ob hp hX (Nat.le_of_ble_eq_true rfl)) (Nat.le_of_ble_eq_true rfl) rfl (vm_X0_isField hp hc10) rfl (rOk.of rfl) ?_
    refine v_if_ne F dX0_paper_51 rfl (fun hq11 => ?_) (fun hq11 => ?_)
    · rw [if_neg hq11] at h
      exact fX0_paper_56_ok F hX hp h K
    · rw [if_pos hq11] at h
      refine v_iconst F dX0_paper_54 ⟨by decide, by decide⟩ ?_
      cases h
      cases (show _ = r from K)
      exact v_iret F dX0_paper_55
theorem vm_X0_paper {w : Wd} {l : Launch} {d m : Dt} {a1 a2 a3 : Int} {r : Int} (hp : PB m 1 0) (h : fX0_paper d a1 a2 a3 = some r) : VM w l WF yX0_paper cX0_paper 5 (some .int) 4 87 0 0 d m [mA 1, mI a1, mI a2, mI a3] (some (mI r)) d m := by
  obtain ⟨x, h, K⟩ : ∃ x, fX0_paper d a1 a2 a3 = some x ∧ x = r := ⟨_, h, rfl⟩
  refine VM.of (L := [mA 1, mI a1, mI a2, mI a3, mU]) (by decide +kernel) rfl (Nat.le_of_ble_eq_true rfl) fun G F _ => v_fact fun _ hX _ _ => ?_
  unfold fX0_paper at h
  refine v_iload_n F dX0_paper_0 rfl rfl ?_
  refine v_iconst F dX0_paper_1 ⟨by decide, by decide⟩ ?_
  refine v_icmp_ne F dX0_paper_2 rfl (fun hq1 => ?_) (fun hq1 => ?_)
  · rw [if_neg hq1] at h
    refine v_iconst F dX0_paper_36 ⟨by decide, by decide⟩ ?_
    exact fX0_paper_37_ok F hX hp h K
  · rw [if_pos hq1] at h
    refine v_aload_n F dX0_paper_5 rfl rfl ?_
    refine v_iload_n F dX0_paper_6 rfl rfl ?_
    obtain ⟨x12, hc13, h⟩ := b1_some h
    refine v_callVv (c := 0) F dX0_paper_7 cv_X0_523 rfl (PB.ob hp hX (Nat.le_of_ble_eq_true rfl)) (Nat.le_of_ble_eq_true rfl) rfl (vm_X0_isBox hp hc13) rfl (rOk.of rfl) ?_
    refine v_if_eq F dX0_paper_10 rfl (fun hq14 => ?_) (fun hq14 => ?_)
    · rw [if_pos hq14] at h
      refine v_iconst F dX0_paper_36 ⟨by decide, by decide⟩ ?_
      exact fX0_paper_37_ok F hX hp h K
    · rw [if_neg hq14] at h
      refine v_iload_n F dX0_paper_13 rfl rfl ?_
      refine v_iconst F dX0_paper_14 ⟨by decide, by decide⟩ ?_
      refine v_aload_n F dX0_paper_15 rfl rfl ?_
      refine gf_X0_120 F dX0_paper_16 hp (v := 78) rfl ?_
      refine v_iload_n F dX0_paper_19 rfl rfl ?_
      obtain ⟨hi15, h⟩ := ck_some h
      refine v_aaldF (c := 0) (k := 34) F dX0_paper_20 hp (Nat.le_of_ble_eq_true rfl) (Nat.le_of_ble_eq_true rfl) (by decide) (by decide) rfl (ar_X0_34 hX hp) (Nat.le_of_ble_eq_true rfl) rfl rfl rfl rfl hi15 (v := (677 + 124 * a1)) (by show 1 + 676 + 124 * a1 = _; omega) ?_
      refine gf_X0_532 F dX0_paper_21 (ae_X0_34 (i := a1) hX hp hi15 (v := (677 + 124 * a1)) (by omega)) ?_
      refine v_iconst F dX0_paper_24 ⟨by decide, by decide⟩ ?_
      refine v_isub F dX0_paper_25 ?_
      refine v_callSv F dX0_paper_26 cs_X0_163 rfl (vm_X0_within) rfl (rOk.of rfl) ?_
      refine v_if_eq F dX0_paper_29 rfl (fun hq16 => ?_) (fun hq16 => ?_)
      · rw [if_pos hq16] at h
        refine v_iconst F dX0_paper_36 ⟨by decide, by decide⟩ ?_
        exact fX0_paper_37_ok F hX hp h K
      · rw [if_neg hq16] at h
        refine v_iconst F dX0_paper_32 ⟨by decide, by decide⟩ ?_
        refine v_goto F dX0_paper_33 rfl ?_
        exact fX0_paper_37_ok F hX hp h K
theorem vm_X11_isPaper {w : Wd} {l : Launch} {d m : Dt} {a1 a2 a3 : Int} {r : Int} (hp : PB m 1545 11) (h : fX11_isPaper d a1 a2 a3 = some r) : VM w l WF yX11_isPaper cX11_isPaper 4 (some .boolean) 3 67 0 0 d m [mA 1545, mI a1, mI a2, mI a3] (some (mI r)) d m := by
  obtain ⟨x, h, K⟩ : ∃ x, fX11_isPaper d a1 a2 a3 = some x ∧ x = r := ⟨_, h, rfl⟩
  refine VM.of (L := [mA 1545, mI a1, mI a2, mI a3]) (by decide +kernel) rfl (Nat.le_of_ble_eq_true rfl) fun G F _ => v_fact fun _ hX _ _ => ?_
  unfold fX11_isPaper at h
  refine v_aload_n F dX11_isPaper_0 rfl rfl ?_
  refine v_iload_n F dX11_isPaper_1 rfl rfl ?_
  obtain ⟨x1, hc2, h⟩ := b1_some h
  refine v_callVv (c := 11) F dX11_isPaper_2 cv_X11_737 rfl (PB.ob hp hX (Nat.le_of_ble_eq_true rfl)) (Nat.le_of_ble_eq_true rfl) rfl (vm_X11_isBox hp hc2) rfl (rOk.of rfl) ?_
  refine v_if_eq F dX11_isPaper_5 rfl (fun hq3 => ?_) (fun hq3 => ?_)
  · rw [if_pos hq3] at h
    refine v_iconst F dX11_isPaper_63 ⟨by decide, by decide⟩ ?_
    cases h
    cases (show _ = r from K)
    exact v_zret F (Or.inl rfl) dX11_isPaper_64
  · rw [if_neg hq3] at h
    refine v_iload_n F dX11_isPaper_8 rfl rfl ?_
    refine v_i2l F dX11_isPaper_9 ?_
    refine v_lconst0 F dX11_isPaper_10 ?_
    refine v_aload_n F dX11_isPaper_11 rfl rfl ?_
    refine gf_X11_549 F dX11_isPaper_12 hp (v := 1613) rfl ?_
    refine v_iload_n F dX11_isPaper_15 rfl rfl ?_
    obtain ⟨hi4, h⟩ := ck_some h
    refine v_iald F dX11_isPaper_16 (ar_X11_93 hX hp) hi4 ?_
    refine v_iconst F dX11_isPaper_17 ⟨by decide, by decide⟩ ?_
    refine v_isub F dX11_isPaper_18 ?_
    refine v_i2l F dX11_isPaper_19 ?_
    refine v_callSv F dX11_isPaper_20 cs_X11_13 rfl (vm_X11_in) rfl (rOk.of rfl) ?_
    refine v_if_eq F dX11_isPaper_23 rfl (fun hq5 => ?_) (fun hq5 => ?_)
    · rw [if_pos hq5] at h
      refine v_iconst F dX11_isPaper_63 ⟨by decide, by decide⟩ ?_
      cases h
      cases (show _ = r from K)
      exact v_zret F (Or.inl rfl) dX11_isPaper_64
    · rw [if_neg hq5] at h
      refine v_iload_n F dX11_isPaper_26 rfl rfl ?_
      refine v_i2l F dX11_isPaper_27 ?_
      refine v_lconst0 F dX11_isPaper_28 ?_
      refine v_aload_n F dX11_isPaper_29 rfl rfl ?_
      refine v_aload_n F dX11_isPaper_30 rfl rfl ?_
      refine gf_X11_697 F dX11_isPaper_31 hp (v := 1608) rfl ?_
      refine v_aload_n F dX11_isPaper_34 rfl rfl ?_
      refine gf_X11_740 F dX11_isPaper_35 hp (v := 1614) rfl ?_
      refine v_sipush F dX11_isPaper_38 rfl ⟨by decide, by decide⟩ ?_
      refine v_iload_n F dX11_isPaper_41 rfl rfl ?_
      refine v_imul F dX11_isPaper_42 ?_
      refine v_iload_n F dX11_isPaper_43 rfl rfl ?_
      refine v_iadd F dX11_isPaper_44 ?_
      obtain ⟨x6, ex6, h⟩ := lv_some h
      refine v_nI ex6 ?_
      obtain ⟨hi7, h⟩ := ck_some h
      refine v_iald F dX11_isPaper_45 (ar_X11_94 hX hp) hi7 ?_
      obtain ⟨x8, ex8, h⟩ := lv_some h
      refine v_nI ex8 ?_
      obtain ⟨hi9, h⟩ := ck_some h
      refine v_iald F dX11_isPaper_46 (ar_X11_88 hX hp) hi9 ?_
      obtain ⟨x10, hc11, h⟩ := b1_some h
      refine v_callVv (c := 11) F dX11_isPaper_47 cv_X11_719 rfl (PB.ob hp hX (Nat.le_of_ble_eq_true rfl)) (Nat.le_of_ble_eq_true rfl) rfl (vm_X11_marksOf hp hc11) rfl (rOk.of rfl) ?_
      refine v_iconst F dX11_isPaper_50 ⟨by decide, by decide⟩ ?_
      refine v_isub F dX11_isPaper_51 ?_
      refine v_i2l F dX11_isPaper_52 ?_
      refine v_callSv F dX11_isPaper_53 cs_X11_13 rfl (vm_X11_in) rfl (rOk.of rfl) ?_
      refine v_if_eq F dX11_isPaper_56 rfl (fun hq12 => ?_) (fun hq12 => ?_)
      · rw [if_pos hq12] at h
        refine v_iconst F dX11_isPaper_63 ⟨by decide, by decide⟩ ?_
        cases h
        cases (show _ = r from K)
        exact v_zret F (Or.inl rfl) dX11_isPaper_64
      · rw [if_neg hq12] at h
        refine v_iconst F dX11_isPaper_59 ⟨by decide, by decide⟩ ?_
        refine v_goto F dX11_isPaper_60 rfl ?_
        cases h
        cases (show _ = r from K)
        exact v_zret F (Or.inr rfl) dX11_isPaper_64
theorem fX11_paper_43_ok {w : Wd} {l : Launch} {G : Cx} {d m dd : Dt} {a1 a2 a3 : Int} {r : Int} {x : Int} (F : Fx w G cX11_paper RX11 5 (some .int) { frames := 4, cells := 0, slots := 0, locals := 90 }) (hX : WF dd m) (hp : PB m 1545 11) (h : fX11_paper_43 d a1 a2 a3 = some x) (K : (fun q => q = r) x) : V w l WF G (QM w G WF (some (mI r)) d m 0 0) d m 0 0 43 [mA 1545, mI a1, mI a2, mI a3, mU] [] := by
  unfold fX11_paper_43 at h
  refine v_aload_n F dX11_paper_43 rfl rfl ?_
  refine gf_X11_552 F dX11_paper_44 hp (v := 1615) rfl ?_
  refine v_iload_n F dX11_paper_47 rfl rfl ?_
  obtain ⟨hi7, h⟩ := ck_some h
  refine v_zald F dX11_paper_48 (ar_X11_95 hX hp) hi7 ?_
  refine v_if_ne F dX11_paper_49 rfl (fun hq8 => ?_) (fun hq8 => ?_)
  · rw [if_neg hq8] at h
    refine v_aload_n F dX11_paper_55 rfl rfl ?_
    refine gf_X11_740 F dX11_paper_56 hp (v := 1614) rfl ?_
    refine v_sipush F dX11_paper_59 rfl ⟨by decide, by decide⟩ ?_
    refine v_iload_n F dX11_paper_62 rfl rfl ?_
    refine v_imul F dX11_paper_63 ?_
    refine v_iload_n F dX11_paper_64 rfl rfl ?_
    refine v_iadd F dX11_paper_65 ?_
    obtain ⟨x9, ex9, h⟩ := lv_some h
    refine v_nI ex9 ?_
    obtain ⟨hi10, h⟩ := ck_some h
    refine v_iald F dX11_paper_66 (ar_X11_94 hX hp) hi10 ?_
    obtain ⟨x11, ex11, h⟩ := lv_some h
    refine v_nI ex11 ?_
    refine v_istore F dX11_paper_67 (Nat.le_of_ble_eq_true rfl) (L' := [mA 1545, mI a1, mI a2, mI a3, mI x11]) rfl ?_
    refine v_iload_n F dX11_paper_69 rfl rfl ?_
    refine v_if_ge F dX11_paper_70 rfl (fun hq12 => ?_) (fun hq12 => ?_)
    · rw [if_pos hq12] at h
      refine v_aload_n F dX11_paper_83 rfl rfl ?_
      refine gf_X11_722 F dX11_paper_84 hp (v := 1610) rfl ?_
      refine v_bipush F dX11_paper_87 rfl ⟨by decide, by decide⟩ ?_
      refine v_iload F dX11_paper_89 rfl ?_
      refine v_imul F dX11_paper_91 ?_
      refine v_iload_n F dX11_paper_92 rfl rfl ?_
      refine v_iadd F dX11_paper_93 ?_
      obtain ⟨x13, ex13, h⟩ := lv_some h
      refine v_nI ex13 ?_
      obtain ⟨hi14, h⟩ := ck_some h
      refine v_bald F dX11_paper_94 (ar_X11_90 hX hp) hi14 ?_
      cases h
      cases (show _ = r from K)
      exact v_iret F dX11_paper_95
    · rw [if_neg hq12] at h
      refine v_aload_n F dX11_paper_73 rfl rfl ?_
      refine gf_X11_697 F dX11_paper_74 hp (v := 1608) rfl ?_
      refine v_iload F dX11_paper_77 rfl ?_
      obtain ⟨hi15, h⟩ := ck_some h
      refine v_iald F dX11_paper_79 (ar_X11_88 hX hp) hi15 ?_
      refine v_goto F dX11_paper_80 rfl ?_
      cases h
      cases (show _ = r from K)
      exact v_iret F dX11_paper_95
  · rw [if_pos hq8] at h
    refine v_bipush F dX11_paper_52 rfl ⟨by decide, by decide⟩ ?_
    cases h
    cases (show _ = r from K)
    exact v_iret F dX11_paper_54
theorem vm_X11_paper {w : Wd} {l : Launch} {d m : Dt} {a1 a2 a3 : Int} {r : Int} (hp : PB m 1545 11) (h : fX11_paper d a1 a2 a3 = some r) : VM w l WF yX11_paper cX11_paper 5 (some .int) 4 90 0 0 d m [mA 1545, mI a1, mI a2, mI a3] (some (mI r)) d m := by
  obtain ⟨x, h, K⟩ : ∃ x, fX11_paper d a1 a2 a3 = some x ∧ x = r := ⟨_, h, rfl⟩
  refine VM.of (L := [mA 1545, mI a1, mI a2, mI a3, mU]) (by decide +kernel) rfl (Nat.le_of_ble_eq_true rfl) fun G F _ => v_fact fun _ hX _ _ => ?_
  unfold fX11_paper at h
  refine v_aload_n F dX11_paper_0 rfl rfl ?_
  refine v_iload_n F dX11_paper_1 rfl rfl ?_
  obtain ⟨x1, hc2, h⟩ := b1_some h
  refine v_callVv (c := 11) F dX11_paper_2 cv_X11_737 rfl (PB.ob hp hX (Nat.le_of_ble_eq_true rfl)) (Nat.le_of_ble_eq_true rfl) rfl (vm_X11_isBox hp hc2) rfl (rOk.of rfl) ?_
  refine v_if_eq F dX11_paper_5 rfl (fun hq3 => ?_) (fun hq3 => ?_)
  · rw [if_pos hq3] at h
    refine v_iconst F dX11_paper_41 ⟨by decide, by decide⟩ ?_
    cases h
    cases (show _ = r from K)
    exact v_iret F dX11_paper_42
  · rw [if_neg hq3] at h
    refine v_iload_n F dX11_paper_8 rfl rfl ?_
    refine v_i2l F dX11_paper_9 ?_
    refine v_lconst0 F dX11_paper_10 ?_
    refine v_aload_n F dX11_paper_11 rfl rfl ?_
    refine gf_X11_549 F dX11_paper_12 hp (v := 1613) rfl ?_
    refine v_iload_n F dX11_paper_15 rfl rfl ?_
    obtain ⟨hi4, h⟩ := ck_some h
    refine v_iald F dX11_paper_16 (ar_X11_93 hX hp) hi4 ?_
    refine v_iconst F dX11_paper_17 ⟨by decide, by decide⟩ ?_
    refine v_isub F dX11_paper_18 ?_
    refine v_i2l F dX11_paper_19 ?_
    refine v_callSv F dX11_paper_20 cs_X11_13 rfl (vm_X11_in) rfl (rOk.of rfl) ?_
    refine v_if_eq F dX11_paper_23 rfl (fun hq5 => ?_) (fun hq5 => ?_)
    · rw [if_pos hq5] at h
      refine v_iconst F dX11_paper_41 ⟨by decide, by decide⟩ ?_
      cases h
      cases (show _ = r from K)
      exact v_iret F dX11_paper_42
    · rw [if_neg hq5] at h
      refine v_iload_n F dX11_paper_26 rfl rfl ?_
      refine v_iconst F dX11_paper_27 ⟨by decide, by decide⟩ ?_
      refine v_icmp_eq F dX11_paper_28 rfl (fun hq6 => ?_) (fun hq6 => ?_)
      · rw [if_pos hq6] at h
        exact fX11_paper_43_ok F hX hp h K
      · rw [if_neg hq6] at h
        refine v_aload_n F dX11_paper_31 rfl rfl ?_
        refine v_iload_n F dX11_paper_32 rfl rfl ?_
        refine v_iload_n F dX11_paper_33 rfl rfl ?_
        refine v_iload_n F dX11_paper_34 rfl rfl ?_
        obtain ⟨x16, hc17, h⟩ := b1_some h
        refine v_callVv (c := 11) F dX11_paper_35 cv_X11_746 rfl (PB.ob hp hX (Nat.le_of_ble_eq_true rfl)) (Nat.le_of_ble_eq_true rfl) rfl (vm_X11_isPaper hp hc17) rfl (rOk.of rfl) ?_
        refine v_if_ne F dX11_paper_38 rfl (fun hq18 => ?_) (fun hq18 => ?_)
        · rw [if_neg hq18] at h
          exact fX11_paper_43_ok F hX hp h K
        · rw [if_pos hq18] at h
          refine v_iconst F dX11_paper_41 ⟨by decide, by decide⟩ ?_
          cases h
          cases (show _ = r from K)
          exact v_iret F dX11_paper_42
theorem vm_X0_record {w : Wd} {l : Launch} {d m : Dt} {a1 a2 a3 : Int} {r : Int} (hp : PB m 1 0) (h : fX0_record d a1 a2 a3 = some r) : VM w l WF yX0_record cX0_record 4 (some .int) 4 87 0 0 d m [mA 1, mI a1, mI a2, mI a3] (some (mI r)) d m := by
  obtain ⟨x, h, K⟩ : ∃ x, fX0_record d a1 a2 a3 = some x ∧ x = r := ⟨_, h, rfl⟩
  refine VM.of (L := [mA 1, mI a1, mI a2, mI a3]) (by decide +kernel) rfl (Nat.le_of_ble_eq_true rfl) fun G F _ => v_fact fun _ hX _ _ => ?_
  unfold fX0_record at h
  refine v_aload_n F dX0_record_0 rfl rfl ?_
  refine v_iload_n F dX0_record_1 rfl rfl ?_
  refine v_iload_n F dX0_record_2 rfl rfl ?_
  refine v_iload_n F dX0_record_3 rfl rfl ?_
  obtain ⟨x1, hc2, h⟩ := b1_some h
  refine v_callVv (c := 0) F dX0_record_4 cv_X0_540 rfl (PB.ob hp hX (Nat.le_of_ble_eq_true rfl)) (Nat.le_of_ble_eq_true rfl) rfl (vm_X0_isField hp hc2) rfl (rOk.of rfl) ?_
  refine v_if_ne F dX0_record_7 rfl (fun hq3 => ?_) (fun hq3 => ?_)
  · rw [if_neg hq3] at h
    refine v_aload_n F dX0_record_14 rfl rfl ?_
    refine gf_X0_120 F dX0_record_15 hp (v := 78) rfl ?_
    refine v_iload_n F dX0_record_18 rfl rfl ?_
    obtain ⟨hi4, h⟩ := ck_some h
    refine v_aaldF (c := 0) (k := 34) F dX0_record_19 hp (Nat.le_of_ble_eq_true rfl) (Nat.le_of_ble_eq_true rfl) (by decide) (by decide) rfl (ar_X0_34 hX hp) (Nat.le_of_ble_eq_true rfl) rfl rfl rfl rfl hi4 (v := (677 + 124 * a1)) (by show 1 + 676 + 124 * a1 = _; omega) ?_
    refine gf_X0_436 F dX0_record_20 (ae_X0_34 (i := a1) hX hp hi4 (v := (677 + 124 * a1)) (by omega)) ?_
    refine v_if_ne F dX0_record_23 rfl (fun hq5 => ?_) (fun hq5 => ?_)
    · rw [if_neg hq5] at h
      refine v_aload_n F dX0_record_31 rfl rfl ?_
      refine gf_X0_120 F dX0_record_32 hp (v := 78) rfl ?_
      refine v_iload_n F dX0_record_35 rfl rfl ?_
      refine v_aaldF (c := 0) (k := 34) F dX0_record_36 hp (Nat.le_of_ble_eq_true rfl) (Nat.le_of_ble_eq_true rfl) (by decide) (by decide) rfl (ar_X0_34 hX hp) (Nat.le_of_ble_eq_true rfl) rfl rfl rfl rfl hi4 (v := (677 + 124 * a1)) (by show 1 + 676 + 124 * a1 = _; omega) ?_
      refine gf_X0_546 F dX0_record_37 (ae_X0_34 (i := a1) hX hp hi4 (v := (677 + 124 * a1)) (by omega)) (v := ((677 + 124 * a1) + 63)) rfl ?_
      refine v_iload_n F dX0_record_40 rfl rfl ?_
      obtain ⟨hi6, h⟩ := ck_some h
      refine v_aaldF (c := 10) (k := 2) F dX0_record_41 (ae_X0_34 (i := a1) hX hp hi4 (v := (677 + 124 * a1)) (by omega)) (Nat.le_of_ble_eq_true rfl) (Nat.le_of_ble_eq_true rfl) (by decide) (by decide) rfl (ar_X10_2 hX (ae_X0_34 (i := a1) hX hp hi4 (v := (677 + 124 * a1)) (by omega))) (Nat.le_of_ble_eq_true rfl) rfl rfl rfl rfl hi6 (v := (((677 + 124 * a1) + 64) + a2)) (by show (677 + 124 * a1) + 64 + 1 * a2 = _; omega) ?_
      refine v_iload_n F dX0_record_42 rfl rfl ?_
      obtain ⟨hi7, h⟩ := ck_some h
      refine v_bald F dX0_record_43 (ae_X10_2 (i := a2) hX (ae_X0_34 (i := a1) hX hp hi4 (v := (677 + 124 * a1)) (by omega)) hi6 (v := (((677 + 124 * a1) + 64) + a2)) (by omega)) hi7 ?_
      cases h
      cases (show _ = r from K)
      exact v_iret F dX0_record_44
    · rw [if_pos hq5] at h
      refine v_bipush F dX0_record_26 rfl ⟨by decide, by decide⟩ ?_
      refine v_goto F dX0_record_28 rfl ?_
      cases h
      cases (show _ = r from K)
      exact v_iret F dX0_record_44
  · rw [if_pos hq3] at h
    refine v_iconst F dX0_record_10 ⟨by decide, by decide⟩ ?_
    refine v_goto F dX0_record_11 rfl ?_
    cases h
    cases (show _ = r from K)
    exact v_iret F dX0_record_44
theorem vm_X11_record {w : Wd} {l : Launch} {d m : Dt} {a1 a2 a3 : Int} {r : Int} (hp : PB m 1545 11) (h : fX11_record d a1 a2 a3 = some r) : VM w l WF yX11_record cX11_record 4 (some .int) 4 90 0 0 d m [mA 1545, mI a1, mI a2, mI a3] (some (mI r)) d m := by
  obtain ⟨x, h, K⟩ : ∃ x, fX11_record d a1 a2 a3 = some x ∧ x = r := ⟨_, h, rfl⟩
  refine VM.of (L := [mA 1545, mI a1, mI a2, mI a3]) (by decide +kernel) rfl (Nat.le_of_ble_eq_true rfl) fun G F _ => v_fact fun _ hX _ _ => ?_
  unfold fX11_record at h
  refine v_aload_n F dX11_record_0 rfl rfl ?_
  refine v_iload_n F dX11_record_1 rfl rfl ?_
  refine v_iload_n F dX11_record_2 rfl rfl ?_
  refine v_iload_n F dX11_record_3 rfl rfl ?_
  obtain ⟨x1, hc2, h⟩ := b1_some h
  refine v_callVv (c := 11) F dX11_record_4 cv_X11_746 rfl (PB.ob hp hX (Nat.le_of_ble_eq_true rfl)) (Nat.le_of_ble_eq_true rfl) rfl (vm_X11_isPaper hp hc2) rfl (rOk.of rfl) ?_
  refine v_if_ne F dX11_record_7 rfl (fun hq3 => ?_) (fun hq3 => ?_)
  · rw [if_neg hq3] at h
    refine v_aload_n F dX11_record_12 rfl rfl ?_
    refine gf_X11_552 F dX11_record_13 hp (v := 1615) rfl ?_
    refine v_iload_n F dX11_record_16 rfl rfl ?_
    obtain ⟨hi4, h⟩ := ck_some h
    refine v_zald F dX11_record_17 (ar_X11_95 hX hp) hi4 ?_
    refine v_if_eq F dX11_record_18 rfl (fun hq5 => ?_) (fun hq5 => ?_)
    · rw [if_pos hq5] at h
      refine v_bipush F dX11_record_46 rfl ⟨by decide, by decide⟩ ?_
      cases h
      cases (show _ = r from K)
      exact v_iret F dX11_record_48
    · rw [if_neg hq5] at h
      refine v_aload_n F dX11_record_21 rfl rfl ?_
      refine gf_X11_725 F dX11_record_22 hp (v := 1611) rfl ?_
      refine v_bipush F dX11_record_25 rfl ⟨by decide, by decide⟩ ?_
      refine v_aload_n F dX11_record_27 rfl rfl ?_
      refine gf_X11_740 F dX11_record_28 hp (v := 1614) rfl ?_
      refine v_sipush F dX11_record_31 rfl ⟨by decide, by decide⟩ ?_
      refine v_iload_n F dX11_record_34 rfl rfl ?_
      refine v_imul F dX11_record_35 ?_
      refine v_iload_n F dX11_record_36 rfl rfl ?_
      refine v_iadd F dX11_record_37 ?_
      obtain ⟨x6, ex6, h⟩ := lv_some h
      refine v_nI ex6 ?_
      obtain ⟨hi7, h⟩ := ck_some h
      refine v_iald F dX11_record_38 (ar_X11_94 hX hp) hi7 ?_
      refine v_imul F dX11_record_39 ?_
      refine v_iload_n F dX11_record_40 rfl rfl ?_
      refine v_iadd F dX11_record_41 ?_
      obtain ⟨x8, ex8, h⟩ := lv_some h
      refine v_nI ex8 ?_
      obtain ⟨hi9, h⟩ := ck_some h
      refine v_bald F dX11_record_42 (ar_X11_91 hX hp) hi9 ?_
      refine v_goto F dX11_record_43 rfl ?_
      cases h
      cases (show _ = r from K)
      exact v_iret F dX11_record_48
  · rw [if_pos hq3] at h
    refine v_iconst F dX11_record_10 ⟨by decide, by decide⟩ ?_
    cases h
    cases (show _ = r from K)
    exact v_iret F dX11_record_11
theorem vm_X0_misread {w : Wd} {l : Launch} {d m : Dt} {a1 a2 a3 a4 : Int} {d' : Dt} {r : Int} (hp : PB m 1 0) (h : fX0_misread d a1 a2 a3 a4 = some (d', r)) : VM w l WF yX0_misread cX0_misread 6 (some .int) 4 87 0 0 d m [mA 1, mI a1, mI a2, mI a3, mI a4] (some (mI r)) d' m := by
  obtain ⟨x, h, K⟩ : ∃ x, fX0_misread d a1 a2 a3 a4 = some x ∧ x = (d', r) := ⟨_, h, rfl⟩
  refine VM.of (L := [mA 1, mI a1, mI a2, mI a3, mI a4, mU]) (by decide +kernel) rfl (Nat.le_of_ble_eq_true rfl) fun G F _ => v_fact fun _ hX _ _ => ?_
  unfold fX0_misread at h
  refine v_aload_n F dX0_misread_0 rfl rfl ?_
  refine v_iload_n F dX0_misread_1 rfl rfl ?_
  refine v_iload_n F dX0_misread_2 rfl rfl ?_
  refine v_iload_n F dX0_misread_3 rfl rfl ?_
  obtain ⟨x1, hc2, h⟩ := b1_some h
  refine v_callVv (c := 0) F dX0_misread_4 cv_X0_540 rfl (PB.ob hp hX (Nat.le_of_ble_eq_true rfl)) (Nat.le_of_ble_eq_true rfl) rfl (vm_X0_isField hp hc2) rfl (rOk.of rfl) ?_
  refine v_if_ne F dX0_misread_7 rfl (fun hq3 => ?_) (fun hq3 => ?_)
  · rw [if_neg hq3] at h
    refine v_aload_n F dX0_misread_12 rfl rfl ?_
    refine gf_X0_120 F dX0_misread_13 hp (v := 78) rfl ?_
    refine v_iload_n F dX0_misread_16 rfl rfl ?_
    obtain ⟨hi4, h⟩ := ck_some h
    refine v_aaldF (c := 0) (k := 34) F dX0_misread_17 hp (Nat.le_of_ble_eq_true rfl) (Nat.le_of_ble_eq_true rfl) (by decide) (by decide) rfl (ar_X0_34 hX hp) (Nat.le_of_ble_eq_true rfl) rfl rfl rfl rfl hi4 (v := (677 + 124 * a1)) (by show 1 + 676 + 124 * a1 = _; omega) ?_
    refine gf_X0_436 F dX0_misread_18 (ae_X0_34 (i := a1) hX hp hi4 (v := (677 + 124 * a1)) (by omega)) ?_
    refine v_if_ne F dX0_misread_21 rfl (fun hq5 => ?_) (fun hq5 => ?_)
    · rw [if_neg hq5] at h
      refine v_iload F dX0_misread_27 rfl ?_
      refine v_iconst F dX0_misread_29 ⟨by decide, by decide⟩ ?_
      refine v_bipush F dX0_misread_30 rfl ⟨by decide, by decide⟩ ?_
      refine v_callSv F dX0_misread_32 cs_X0_163 rfl (vm_X0_within) rfl (rOk.of rfl) ?_
      refine v_if_ne F dX0_misread_35 rfl (fun hq6 => ?_) (fun hq6 => ?_)
      · rw [if_neg hq6] at h
        refine v_aload_n F dX0_misread_41 rfl rfl ?_
        refine gf_X0_120 F dX0_misread_42 hp (v := 78) rfl ?_
        refine v_iload_n F dX0_misread_45 rfl rfl ?_
        refine v_aaldF (c := 0) (k := 34) F dX0_misread_46 hp (Nat.le_of_ble_eq_true rfl) (Nat.le_of_ble_eq_true rfl) (by decide) (by decide) rfl (ar_X0_34 hX hp) (Nat.le_of_ble_eq_true rfl) rfl rfl rfl rfl hi4 (v := (677 + 124 * a1)) (by show 1 + 676 + 124 * a1 = _; omega) ?_
        refine gf_X0_546 F dX0_misread_47 (ae_X0_34 (i := a1) hX hp hi4 (v := (677 + 124 * a1)) (by omega)) (v := ((677 + 124 * a1) + 63)) rfl ?_
        refine v_iload_n F dX0_misread_50 rfl rfl ?_
        obtain ⟨hi7, h⟩ := ck_some h
        refine v_aaldF (c := 10) (k := 2) F dX0_misread_51 (ae_X0_34 (i := a1) hX hp hi4 (v := (677 + 124 * a1)) (by omega)) (Nat.le_of_ble_eq_true rfl) (Nat.le_of_ble_eq_true rfl) (by decide) (by decide) rfl (ar_X10_2 hX (ae_X0_34 (i := a1) hX hp hi4 (v := (677 + 124 * a1)) (by omega))) (Nat.le_of_ble_eq_true rfl) rfl rfl rfl rfl hi7 (v := (((677 + 124 * a1) + 64) + a2)) (by show (677 + 124 * a1) + 64 + 1 * a2 = _; omega) ?_
        refine v_iload_n F dX0_misread_52 rfl rfl ?_
        obtain ⟨hi8, h⟩ := ck_some h
        refine v_bald F dX0_misread_53 (ae_X10_2 (i := a2) hX (ae_X0_34 (i := a1) hX hp hi4 (v := (677 + 124 * a1)) (by omega)) hi7 (v := (((677 + 124 * a1) + 64) + a2)) (by omega)) hi8 ?_
        obtain ⟨x9, ex9, h⟩ := lv_some h
        refine v_nI ex9 ?_
        refine v_istore F dX0_misread_54 (Nat.le_of_ble_eq_true rfl) (L' := [mA 1, mI a1, mI a2, mI a3, mI a4, mI x9]) rfl ?_
        refine v_aload_n F dX0_misread_56 rfl rfl ?_
        refine gf_X0_120 F dX0_misread_57 hp (v := 78) rfl ?_
        refine v_iload_n F dX0_misread_60 rfl rfl ?_
        refine v_aaldF (c := 0) (k := 34) F dX0_misread_61 hp (Nat.le_of_ble_eq_true rfl) (Nat.le_of_ble_eq_true rfl) (by decide) (by decide) rfl (ar_X0_34 hX hp) (Nat.le_of_ble_eq_true rfl) rfl rfl rfl rfl hi4 (v := (677 + 124 * a1)) (by show 1 + 676 + 124 * a1 = _; omega) ?_
        refine gf_X0_546 F dX0_misread_62 (ae_X0_34 (i := a1) hX hp hi4 (v := (677 + 124 * a1)) (by omega)) (v := ((677 + 124 * a1) + 63)) rfl ?_
        refine v_iload_n F dX0_misread_65 rfl rfl ?_
        refine v_aaldF (c := 10) (k := 2) F dX0_misread_66 (ae_X0_34 (i := a1) hX hp hi4 (v := (677 + 124 * a1)) (by omega)) (Nat.le_of_ble_eq_true rfl) (Nat.le_of_ble_eq_true rfl) (by decide) (by decide) rfl (ar_X10_2 hX (ae_X0_34 (i := a1) hX hp hi4 (v := (677 + 124 * a1)) (by omega))) (Nat.le_of_ble_eq_true rfl) rfl rfl rfl rfl hi7 (v := (((677 + 124 * a1) + 64) + a2)) (by show (677 + 124 * a1) + 64 + 1 * a2 = _; omega) ?_
        refine v_iload_n F dX0_misread_67 rfl rfl ?_
        refine v_iload F dX0_misread_68 rfl ?_
        refine v_i2b F dX0_misread_70 ?_
        obtain ⟨d10, ed10, h⟩ := sd_some h
        refine v_bast F dX0_misread_71 (ae_X10_2 (i := a2) hX (ae_X0_34 (i := a1) hX hp hi4 (v := (677 + 124 * a1)) (by omega)) hi7 (v := (((677 + 124 * a1) + 64) + a2)) (by omega)) hi8 ?_
        refine v_nD ed10 ?_
        refine v_iload F dX0_misread_72 rfl ?_
        cases h
        cases (show _ = (d', r) from K)
        exact v_iret F dX0_misread_74
      · rw [if_pos hq6] at h
        refine v_bipush F dX0_misread_38 rfl ⟨by decide, by decide⟩ ?_
        cases h
        cases (show _ = (d', r) from K)
        exact v_iret F dX0_misread_40
    · rw [if_pos hq5] at h
      refine v_bipush F dX0_misread_24 rfl ⟨by decide, by decide⟩ ?_
      cases h
      cases (show _ = (d', r) from K)
      exact v_iret F dX0_misread_26
  · rw [if_pos hq3] at h
    refine v_iconst F dX0_misread_10 ⟨by decide, by decide⟩ ?_
    cases h
    cases (show _ = (d', r) from K)
    exact v_iret F dX0_misread_11
theorem vm_X11_misread {w : Wd} {l : Launch} {d m : Dt} {a1 a2 a3 a4 : Int} {d' : Dt} {r : Int} (hp : PB m 1545 11) (h : fX11_misread d a1 a2 a3 a4 = some (d', r)) : VM w l WF yX11_misread cX11_misread 7 (some .int) 4 90 0 0 d m [mA 1545, mI a1, mI a2, mI a3, mI a4] (some (mI r)) d' m := by
  obtain ⟨x, h, K⟩ : ∃ x, fX11_misread d a1 a2 a3 a4 = some x ∧ x = (d', r) := ⟨_, h, rfl⟩
  refine VM.of (L := [mA 1545, mI a1, mI a2, mI a3, mI a4, mU, mU]) (by decide +kernel) rfl (Nat.le_of_ble_eq_true rfl) fun G F _ => v_fact fun _ hX _ _ => ?_
  unfold fX11_misread at h
  refine v_aload_n F dX11_misread_0 rfl rfl ?_
  refine v_iload_n F dX11_misread_1 rfl rfl ?_
  refine v_iload_n F dX11_misread_2 rfl rfl ?_
  refine v_iload_n F dX11_misread_3 rfl rfl ?_
  obtain ⟨x1, hc2, h⟩ := b1_some h
  refine v_callVv (c := 11) F dX11_misread_4 cv_X11_746 rfl (PB.ob hp hX (Nat.le_of_ble_eq_true rfl)) (Nat.le_of_ble_eq_true rfl) rfl (vm_X11_isPaper hp hc2) rfl (rOk.of rfl) ?_
  refine v_if_ne F dX11_misread_7 rfl (fun hq3 => ?_) (fun hq3 => ?_)
  · rw [if_neg hq3] at h
    refine v_aload_n F dX11_misread_12 rfl rfl ?_
    refine gf_X11_552 F dX11_misread_13 hp (v := 1615) rfl ?_
    refine v_iload_n F dX11_misread_16 rfl rfl ?_
    obtain ⟨hi4, h⟩ := ck_some h
    refine v_zald F dX11_misread_17 (ar_X11_95 hX hp) hi4 ?_
    refine v_if_ne F dX11_misread_18 rfl (fun hq5 => ?_) (fun hq5 => ?_)
    · rw [if_neg hq5] at h
      refine v_iload F dX11_misread_24 rfl ?_
      refine v_i2l F dX11_misread_26 ?_
      refine v_lconst0 F dX11_misread_27 ?_
      refine v_ldc2 (n := 9) F dX11_misread_28 q2497 rfl ⟨by decide, by decide⟩ ?_
      refine v_callSv F dX11_misread_31 cs_X11_13 rfl (vm_X11_in) rfl (rOk.of rfl) ?_
      refine v_if_ne F dX11_misread_34 rfl (fun hq6 => ?_) (fun hq6 => ?_)
      · rw [if_neg hq6] at h
        refine v_bipush F dX11_misread_40 rfl ⟨by decide, by decide⟩ ?_
        refine v_aload_n F dX11_misread_42 rfl rfl ?_
        refine gf_X11_740 F dX11_misread_43 hp (v := 1614) rfl ?_
        refine v_sipush F dX11_misread_46 rfl ⟨by decide, by decide⟩ ?_
        refine v_iload_n F dX11_misread_49 rfl rfl ?_
        refine v_imul F dX11_misread_50 ?_
        refine v_iload_n F dX11_misread_51 rfl rfl ?_
        refine v_iadd F dX11_misread_52 ?_
        obtain ⟨x7, ex7, h⟩ := lv_some h
        refine v_nI ex7 ?_
        obtain ⟨hi8, h⟩ := ck_some h
        refine v_iald F dX11_misread_53 (ar_X11_94 hX hp) hi8 ?_
        refine v_imul F dX11_misread_54 ?_
        refine v_iload_n F dX11_misread_55 rfl rfl ?_
        refine v_iadd F dX11_misread_56 ?_
        obtain ⟨x9, ex9, h⟩ := lv_some h
        refine v_nI ex9 ?_
        refine v_istore F dX11_misread_57 (Nat.le_of_ble_eq_true rfl) (L' := [mA 1545, mI a1, mI a2, mI a3, mI a4, mI x9, mU]) rfl ?_
        refine v_aload_n F dX11_misread_59 rfl rfl ?_
        refine gf_X11_725 F dX11_misread_60 hp (v := 1611) rfl ?_
        refine v_iload F dX11_misread_63 rfl ?_
        obtain ⟨hi10, h⟩ := ck_some h
        refine v_bald F dX11_misread_65 (ar_X11_91 hX hp) hi10 ?_
        obtain ⟨x11, ex11, h⟩ := lv_some h
        refine v_nI ex11 ?_
        refine v_istore F dX11_misread_66 (Nat.le_of_ble_eq_true rfl) (L' := [mA 1545, mI a1, mI a2, mI a3, mI a4, mI x9, mI x11]) rfl ?_
        refine v_aload_n F dX11_misread_68 rfl rfl ?_
        refine gf_X11_725 F dX11_misread_69 hp (v := 1611) rfl ?_
        refine v_iload F dX11_misread_72 rfl ?_
        refine v_iload F dX11_misread_74 rfl ?_
        refine v_i2b F dX11_misread_76 ?_
        obtain ⟨d12, ed12, h⟩ := sd_some h
        refine v_bast F dX11_misread_77 (ar_X11_91 hX hp) hi10 ?_
        refine v_nD ed12 ?_
        refine v_iload F dX11_misread_78 rfl ?_
        cases h
        cases (show _ = (d', r) from K)
        exact v_iret F dX11_misread_80
      · rw [if_pos hq6] at h
        refine v_bipush F dX11_misread_37 rfl ⟨by decide, by decide⟩ ?_
        cases h
        cases (show _ = (d', r) from K)
        exact v_iret F dX11_misread_39
    · rw [if_pos hq5] at h
      refine v_bipush F dX11_misread_21 rfl ⟨by decide, by decide⟩ ?_
      cases h
      cases (show _ = (d', r) from K)
      exact v_iret F dX11_misread_23
  · rw [if_pos hq3] at h
    refine v_iconst F dX11_misread_10 ⟨by decide, by decide⟩ ?_
    cases h
    cases (show _ = (d', r) from K)
    exact v_iret F dX11_misread_11
