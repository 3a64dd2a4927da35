set_option maxRecDepth 100000
set_option maxHeartbeats 4000000
def fX11_votesOfAll_4P (w : Wd) (l : Launch) (G : Cx) (Q : State → Prop) (m : Dt) (d : Dt) (s : Int × Int) : Prop := V w l WF G Q d m 0 0 4 [mA 1545, mI (s.1), mI (s.2)] []
theorem fX11_votesOfAll_32_ok {w : Wd} {l : Launch} {G : Cx} {d m dd : Dt} {v2 s0 s1 : Int} {r : Int} {x : ((Int × Int) ⊕ Int)} (F : Fx w G cX11_votesOfAll RX11 3 (some .int) { frames := 0, cells := 0, slots := 0, locals := 0 }) (hX : WF dd m) (hp : PB m 1545 11) (h : fX11_votesOfAll_32 d v2 s0 s1 = some x) (K : (Sum.elim (fX11_votesOfAll_4P w l G (QM w G WF (some (mI r)) d m 0 0) m d) (fun q => q = r)) x) : V w l WF G (QM w G WF (some (mI r)) d m 0 0) d m 0 0 32 [mA 1545, mU, mI v2] [mI s1, mI s0] := by
  unfold fX11_votesOfAll_32 at h
  refine v_iadd F dX11_votesOfAll_32 ?_
  obtain ⟨x4, ex4, h⟩ := lv_some h
  refine v_nI ex4 ?_
  refine v_istore_n F dX11_votesOfAll_33 rfl (Nat.le_of_ble_eq_true rfl) (L' := [mA 1545, mI x4, mI v2]) rfl ?_
  obtain ⟨x5, ex5, h⟩ := lv_some h
  refine v_iincN F dX11_votesOfAll_34 (Nat.le_of_ble_eq_true rfl) rfl ex5 (L' := [mA 1545, mI x4, mI x5]) rfl ?_
  refine v_goto F dX11_votesOfAll_37 rfl ?_
  cases h
  exact K
theorem fX11_votesOfAll_4f_ok {w : Wd} {l : Launch} {G : Cx} {d m dd : Dt} {r : Int} {s : Int × Int} {x : ((Int × Int) ⊕ Int)} (F : Fx w G cX11_votesOfAll RX11 3 (some .int) { frames := 0, cells := 0, slots := 0, locals := 0 }) (hX : WF dd m) (hp : PB m 1545 11) (h : fX11_votesOfAll_4f d s = some x) (K : (Sum.elim (fX11_votesOfAll_4P w l G (QM w G WF (some (mI r)) d m 0 0) m d) (fun q => q = r)) x) : V w l WF G (QM w G WF (some (mI r)) d m 0 0) d m 0 0 4 [mA 1545, mI (s.1), mI (s.2)] [] := by
  obtain ⟨v1, v2⟩ := s
  unfold fX11_votesOfAll_4f at h
  dsimp only at h
  refine v_iload_n F dX11_votesOfAll_4 rfl rfl ?_
  refine v_aload_n F dX11_votesOfAll_5 rfl rfl ?_
  refine gf_X11_1054 F dX11_votesOfAll_6 hp ?_
  refine v_icmp_ge F dX11_votesOfAll_9 rfl (fun hq1 => ?_) (fun hq1 => ?_)
  · rw [if_pos hq1] at h
    obtain ⟨z, hu, ez⟩ := up_some h
    clear h
    subst ez
    have h := hu
    clear hu
    refine v_iload_n F dX11_votesOfAll_40 rfl rfl ?_
    cases h
    cases (show _ = r from K)
    exact v_iret F dX11_votesOfAll_41
  · rw [if_neg hq1] at h
    refine v_iload_n F dX11_votesOfAll_12 rfl rfl ?_
    refine v_aload_n F dX11_votesOfAll_13 rfl rfl ?_
    refine gf_X11_1072 F dX11_votesOfAll_14 hp (v := 1645) rfl ?_
    refine v_iload_n F dX11_votesOfAll_17 rfl rfl ?_
    obtain ⟨hi2, h⟩ := ck_some h
    refine v_zald F dX11_votesOfAll_18 (ar_X11_142 hX hp) hi2 ?_
    refine v_if_eq F dX11_votesOfAll_19 rfl (fun hq3 => ?_) (fun hq3 => ?_)
    · rw [if_pos hq3] at h
      refine v_iconst F dX11_votesOfAll_31 ⟨by decide, by decide⟩ ?_
      refine v_fgt (L' := [mA 1545, mU, mI v2]) ⟨Or.inl rfl, Or.inr rfl, Or.inl rfl, trivial⟩ ?_
      exact fX11_votesOfAll_32_ok F hX hp h K
    · rw [if_neg hq3] at h
      refine v_aload_n F dX11_votesOfAll_22 rfl rfl ?_
      refine gf_X11_1063 F dX11_votesOfAll_23 hp (v := 1643) rfl ?_
      refine v_iload_n F dX11_votesOfAll_26 rfl rfl ?_
      refine v_iald F dX11_votesOfAll_27 (ar_X11_140 hX hp) hi2 ?_
      refine v_goto F dX11_votesOfAll_28 rfl ?_
      refine v_fgt (L' := [mA 1545, mU, mI v2]) ⟨Or.inl rfl, Or.inr rfl, Or.inl rfl, trivial⟩ ?_
      exact fX11_votesOfAll_32_ok F hX hp h K
theorem fX11_votesOfAll_4_ok {w : Wd} {l : Launch} {G : Cx} {d m dd : Dt} {v1 v2 : Int} {r : Int} {x : Int} (F : Fx w G cX11_votesOfAll RX11 3 (some .int) { frames := 0, cells := 0, slots := 0, locals := 0 }) (hX : WF dd m) (hp : PB m 1545 11) (h : fX11_votesOfAll_4 d v1 v2 = some x) (K : (fun q => q = r) x) : V w l WF G (QM w G WF (some (mI r)) d m 0 0) d m 0 0 4 [mA 1545, mI v1, mI v2] [] := by
  unfold fX11_votesOfAll_4 at h
  exact loop_ok (P := fX11_votesOfAll_4P w l G (QM w G WF (some (mI r)) d m 0 0) m d) (fun s x hx h1 h2 => fX11_votesOfAll_4f_ok F hX hp hx (by
    cases x with
    | inl s' => exact h1 s' rfl
    | inr z => cases h2 z rfl; exact K)) h
theorem vm_X11_votesOfAll {w : Wd} {l : Launch} {d m : Dt} {r : Int} (hp : PB m 1545 11) (h : fX11_votesOfAll d = some r) : VM w l WF yX11_votesOfAll cX11_votesOfAll 3 (some .int) 0 0 0 0 d m [mA 1545] (some (mI r)) d m := by
  obtain ⟨x, h, K⟩ : ∃ x, fX11_votesOfAll d = some x ∧ x = r := ⟨_, h, rfl⟩
  refine VM.of (L := [mA 1545, mU, mU]) (by decide +kernel) rfl (Nat.le_of_ble_eq_true rfl) fun G F _ => v_fact fun _ hX _ _ => ?_
  unfold fX11_votesOfAll at h
  refine v_iconst F dX11_votesOfAll_0 ⟨by decide, by decide⟩ ?_
  refine v_istore_n F dX11_votesOfAll_1 rfl (Nat.le_of_ble_eq_true rfl) (L' := [mA 1545, mI 0, mU]) rfl ?_
  refine v_iconst F dX11_votesOfAll_2 ⟨by decide, by decide⟩ ?_
  refine v_istore_n F dX11_votesOfAll_3 rfl (Nat.le_of_ble_eq_true rfl) (L' := [mA 1545, mI 0, mI 0]) rfl ?_
  exact fX11_votesOfAll_4_ok F hX hp h K
def fX11_sortLists_7P (w : Wd) (l : Launch) (G : Cx) (Q : State → Prop) (m : Dt) (a1 : Int) (s : Dt × Int) : Prop := V w l WF G Q s.1 m 0 0 7 [mA 1545, mI a1, mI (s.2), mU, mU] []
def fX11_sortLists_50P (w : Wd) (l : Launch) (G : Cx) (Q : State → Prop) (m : Dt) (a1 v2 v3 : Int) (s : Dt × Int) : Prop := V w l WF G Q s.1 m 0 0 50 [mA 1545, mI a1, mI v2, mI v3, mI (s.2)] []
theorem fX11_sortLists_130_ok {w : Wd} {l : Launch} {G : Cx} {d m dd : Dt} {a1 v2 v3 v4 : Int} {d' : Dt} {x : ((Dt × Int) ⊕ Dt)} (F : Fx w G cX11_sortLists RX11 5 none { frames := 0, cells := 0, slots := 0, locals := 0 }) (hX : WF dd m) (hp : PB m 1545 11) (h : fX11_sortLists_130 d a1 v2 v3 v4 = some x) (K : (Sum.elim (fX11_sortLists_7P w l G (QM w G WF none d' m 0 0) m a1) (fun q => q = d')) x) : V w l WF G (QM w G WF none d' m 0 0) d m 0 0 130 [mA 1545, mI a1, mI v2, mI v3, mI v4] [] := by
  unfold fX11_sortLists_130 at h
  refine v_aload_n F dX11_sortLists_130 rfl rfl ?_
  refine gf_X11_1097 F dX11_sortLists_131 hp (v := 1650) rfl ?_
  refine v_iload F dX11_sortLists_134 rfl ?_
  refine v_iload_n F dX11_sortLists_136 rfl rfl ?_
  obtain ⟨hi8, h⟩ := ck_some h
  obtain ⟨d9, ed9, h⟩ := sd_some h
  refine v_iast F dX11_sortLists_137 (ar_X11_147 hX hp) hi8 ?_
  refine v_nD ed9 ?_
  refine v_aload_n F dX11_sortLists_138 rfl rfl ?_
  refine v_dup_A F dX11_sortLists_139 ?_
  refine gf_X11_798 F dX11_sortLists_140 hp ?_
  refine v_iconst F dX11_sortLists_143 ⟨by decide, by decide⟩ ?_
  refine v_iadd F dX11_sortLists_144 ?_
  obtain ⟨d10, ed10, h⟩ := sd_some h
  refine pf_X11_798 F dX11_sortLists_145 hp ?_
  refine v_nD ed10 ?_
  obtain ⟨x11, ex11, h⟩ := lv_some h
  refine v_iincN F dX11_sortLists_148 (Nat.le_of_ble_eq_true rfl) rfl ex11 (L' := [mA 1545, mI a1, mI x11, mI v3, mI v4]) rfl ?_
  refine v_goto F dX11_sortLists_151 rfl ?_
  cases h
  refine v_fgt (L' := [mA 1545, mI a1, mI x11, mU, mU]) ⟨Or.inl rfl, Or.inl rfl, Or.inl rfl, Or.inr rfl, Or.inr rfl, trivial⟩ ?_
  exact K
theorem fX11_sortLists_108_ok {w : Wd} {l : Launch} {G : Cx} {d m dd : Dt} {a1 v2 v3 v4 : Int} {d' : Dt} {x : ((Dt × Int) ⊕ ((Dt × Int) ⊕ Dt))} (F : Fx w G cX11_sortLists RX11 5 none { frames := 0, cells := 0, slots := 0, locals := 0 }) (hX : WF dd m) (hp : PB m 1545 11) (h : fX11_sortLists_108 d a1 v2 v3 v4 = some x) (K : (Sum.elim (fX11_sortLists_50P w l G (QM w G WF none d' m 0 0) m a1 v2 v3) (Sum.elim (fX11_sortLists_7P w l G (QM w G WF none d' m 0 0) m a1) (fun q => q = d'))) x) : V w l WF G (QM w G WF none d' m 0 0) d m 0 0 108 [mA 1545, mI a1, mI v2, mI v3, mI v4] [] := by
  unfold fX11_sortLists_108 at h
  refine v_aload_n F dX11_sortLists_108 rfl rfl ?_
  refine gf_X11_1097 F dX11_sortLists_109 hp (v := 1650) rfl ?_
  refine v_iload F dX11_sortLists_112 rfl ?_
  refine v_aload_n F dX11_sortLists_114 rfl rfl ?_
  refine gf_X11_1097 F dX11_sortLists_115 hp (v := 1650) rfl ?_
  refine v_iload F dX11_sortLists_118 rfl ?_
  refine v_iconst F dX11_sortLists_120 ⟨by decide, by decide⟩ ?_
  refine v_isub F dX11_sortLists_121 ?_
  obtain ⟨x19, ex19, h⟩ := lv_some h
  refine v_nI ex19 ?_
  obtain ⟨hi20, h⟩ := ck_some h
  refine v_iald F dX11_sortLists_122 (ar_X11_147 hX hp) hi20 ?_
  obtain ⟨hi21, h⟩ := ck_some h
  obtain ⟨d22, ed22, h⟩ := sd_some h
  refine v_iast F dX11_sortLists_123 (ar_X11_147 hX hp) hi21 ?_
  refine v_nD ed22 ?_
  obtain ⟨x23, ex23, h⟩ := lv_some h
  refine v_iincN F dX11_sortLists_124 (Nat.le_of_ble_eq_true rfl) rfl ex23 (L' := [mA 1545, mI a1, mI v2, mI v3, mI x23]) rfl ?_
  refine v_goto F dX11_sortLists_127 rfl ?_
  cases h
  exact K
theorem fX11_sortLists_50f_ok {w : Wd} {l : Launch} {G : Cx} {m dd : Dt} {a1 v2 v3 : Int} {d' : Dt} {s : Dt × Int} {x : ((Dt × Int) ⊕ ((Dt × Int) ⊕ Dt))} (F : Fx w G cX11_sortLists RX11 5 none { frames := 0, cells := 0, slots := 0, locals := 0 }) (hX : WF dd m) (hp : PB m 1545 11) (h : fX11_sortLists_50f a1 v2 v3 s = some x) (K : (Sum.elim (fX11_sortLists_50P w l G (QM w G WF none d' m 0 0) m a1 v2 v3) (Sum.elim (fX11_sortLists_7P w l G (QM w G WF none d' m 0 0) m a1) (fun q => q = d'))) x) : V w l WF G (QM w G WF none d' m 0 0) s.1 m 0 0 50 [mA 1545, mI a1, mI v2, mI v3, mI (s.2)] [] := by
  obtain ⟨d, v4⟩ := s
  unfold fX11_sortLists_50f at h
  dsimp only at h
  refine v_iload F dX11_sortLists_50 rfl ?_
  refine v_if_le F dX11_sortLists_52 rfl (fun hq7 => ?_) (fun hq7 => ?_)
  · rw [if_pos hq7] at h
    obtain ⟨z, hu, ez⟩ := up_some h
    clear h
    subst ez
    have h := hu
    clear hu
    exact fX11_sortLists_130_ok F hX hp h K
  · rw [if_neg hq7] at h
    refine v_iload_n F dX11_sortLists_55 rfl rfl ?_
    refine v_if_eq F dX11_sortLists_56 rfl (fun hq12 => ?_) (fun hq12 => ?_)
    · rw [if_pos hq12] at h
      refine v_aload_n F dX11_sortLists_85 rfl rfl ?_
      refine gf_X11_1091 F dX11_sortLists_86 hp (v := 1647) rfl ?_
      refine v_iload_n F dX11_sortLists_89 rfl rfl ?_
      obtain ⟨hi13, h⟩ := ck_some h
      refine v_iald F dX11_sortLists_90 (ar_X11_144 hX hp) hi13 ?_
      refine v_aload_n F dX11_sortLists_91 rfl rfl ?_
      refine gf_X11_1091 F dX11_sortLists_92 hp (v := 1647) rfl ?_
      refine v_aload_n F dX11_sortLists_95 rfl rfl ?_
      refine gf_X11_1097 F dX11_sortLists_96 hp (v := 1650) rfl ?_
      refine v_iload F dX11_sortLists_99 rfl ?_
      refine v_iconst F dX11_sortLists_101 ⟨by decide, by decide⟩ ?_
      refine v_isub F dX11_sortLists_102 ?_
      obtain ⟨x14, ex14, h⟩ := lv_some h
      refine v_nI ex14 ?_
      obtain ⟨hi15, h⟩ := ck_some h
      refine v_iald F dX11_sortLists_103 (ar_X11_147 hX hp) hi15 ?_
      obtain ⟨x16, ex16, h⟩ := lv_some h
      refine v_nI ex16 ?_
      obtain ⟨hi17, h⟩ := ck_some h
      refine v_iald F dX11_sortLists_104 (ar_X11_144 hX hp) hi17 ?_
      refine v_icmp_ge F dX11_sortLists_105 rfl (fun hq18 => ?_) (fun hq18 => ?_)
      · rw [if_pos hq18] at h
        obtain ⟨z, hu, ez⟩ := up_some h
        clear h
        subst ez
        have h := hu
        clear hu
        exact fX11_sortLists_130_ok F hX hp h K
      · rw [if_neg hq18] at h
        exact fX11_sortLists_108_ok F hX hp h K
    · rw [if_neg hq12] at h
      refine v_aload_n F dX11_sortLists_59 rfl rfl ?_
      refine gf_X11_1091 F dX11_sortLists_60 hp (v := 1647) rfl ?_
      refine v_iload_n F dX11_sortLists_63 rfl rfl ?_
      obtain ⟨hi24, h⟩ := ck_some h
      refine v_iald F dX11_sortLists_64 (ar_X11_144 hX hp) hi24 ?_
      refine v_aload_n F dX11_sortLists_65 rfl rfl ?_
      refine gf_X11_1091 F dX11_sortLists_66 hp (v := 1647) rfl ?_
      refine v_aload_n F dX11_sortLists_69 rfl rfl ?_
      refine gf_X11_1097 F dX11_sortLists_70 hp (v := 1650) rfl ?_
      refine v_iload F dX11_sortLists_73 rfl ?_
      refine v_iconst F dX11_sortLists_75 ⟨by decide, by decide⟩ ?_
      refine v_isub F dX11_sortLists_76 ?_
      obtain ⟨x25, ex25, h⟩ := lv_some h
      refine v_nI ex25 ?_
      obtain ⟨hi26, h⟩ := ck_some h
      refine v_iald F dX11_sortLists_77 (ar_X11_147 hX hp) hi26 ?_
      obtain ⟨x27, ex27, h⟩ := lv_some h
      refine v_nI ex27 ?_
      obtain ⟨hi28, h⟩ := ck_some h
      refine v_iald F dX11_sortLists_78 (ar_X11_144 hX hp) hi28 ?_
      refine v_icmp_le F dX11_sortLists_79 rfl (fun hq29 => ?_) (fun hq29 => ?_)
      · rw [if_pos hq29] at h
        obtain ⟨z, hu, ez⟩ := up_some h
        clear h
        subst ez
        have h := hu
        clear hu
        exact fX11_sortLists_130_ok F hX hp h K
      · rw [if_neg hq29] at h
        refine v_goto F dX11_sortLists_82 rfl ?_
        exact fX11_sortLists_108_ok F hX hp h K
theorem fX11_sortLists_50_ok {w : Wd} {l : Launch} {G : Cx} {d m dd : Dt} {a1 v2 v3 v4 : Int} {d' : Dt} {x : ((Dt × Int) ⊕ Dt)} (F : Fx w G cX11_sortLists RX11 5 none { frames := 0, cells := 0, slots := 0, locals := 0 }) (hX : WF dd m) (hp : PB m 1545 11) (h : fX11_sortLists_50 d a1 v2 v3 v4 = some x) (K : (Sum.elim (fX11_sortLists_7P w l G (QM w G WF none d' m 0 0) m a1) (fun q => q = d')) x) : V w l WF G (QM w G WF none d' m 0 0) d m 0 0 50 [mA 1545, mI a1, mI v2, mI v3, mI v4] [] := by
  unfold fX11_sortLists_50 at h
  exact loop_ok (P := fX11_sortLists_50P w l G (QM w G WF none d' m 0 0) m a1 v2 v3) (fun s x hx h1 h2 => fX11_sortLists_50f_ok F hX hp hx (by
    cases x with
    | inl s' => exact h1 s' rfl
    | inr z => cases h2 z rfl; exact K)) h
theorem fX11_sortLists_31_ok {w : Wd} {l : Launch} {G : Cx} {d m dd : Dt} {a1 v2 s0 : Int} {d' : Dt} {x : ((Dt × Int) ⊕ Dt)} (F : Fx w G cX11_sortLists RX11 5 none { frames := 0, cells := 0, slots := 0, locals := 0 }) (hX : WF dd m) (hp : PB m 1545 11) (h : fX11_sortLists_31 d a1 v2 s0 = some x) (K : (Sum.elim (fX11_sortLists_7P w l G (QM w G WF none d' m 0 0) m a1) (fun q => q = d')) x) : V w l WF G (QM w G WF none d' m 0 0) d m 0 0 31 [mA 1545, mI a1, mI v2, mU, mU] [mI s0] := by
  unfold fX11_sortLists_31 at h
  refine v_istore_n F dX11_sortLists_31 rfl (Nat.le_of_ble_eq_true rfl) (L' := [mA 1545, mI a1, mI v2, mI s0, mU]) rfl ?_
  refine v_aload_n F dX11_sortLists_32 rfl rfl ?_
  refine gf_X11_1072 F dX11_sortLists_33 hp (v := 1645) rfl ?_
  refine v_iload_n F dX11_sortLists_36 rfl rfl ?_
  obtain ⟨hi4, h⟩ := ck_some h
  refine v_zald F dX11_sortLists_37 (ar_X11_142 hX hp) hi4 ?_
  refine v_if_ne F dX11_sortLists_38 rfl (fun hq5 => ?_) (fun hq5 => ?_)
  · rw [if_neg hq5] at h
    refine v_aload_n F dX11_sortLists_44 rfl rfl ?_
    refine gf_X11_798 F dX11_sortLists_45 hp ?_
    obtain ⟨x6, ex6, h⟩ := lv_some h
    refine v_nI ex6 ?_
    refine v_istore F dX11_sortLists_48 (Nat.le_of_ble_eq_true rfl) (L' := [mA 1545, mI a1, mI v2, mI s0, mI x6]) rfl ?_
    exact fX11_sortLists_50_ok F hX hp h K
  · rw [if_pos hq5] at h
    refine v_goto F dX11_sortLists_41 rfl ?_
    obtain ⟨x30, ex30, h⟩ := lv_some h
    refine v_iincN F dX11_sortLists_148 (Nat.le_of_ble_eq_true rfl) rfl ex30 (L' := [mA 1545, mI a1, mI x30, mI s0, mU]) rfl ?_
    refine v_goto F dX11_sortLists_151 rfl ?_
    cases h
    refine v_fgt (L' := [mA 1545, mI a1, mI x30, mU, mU]) ⟨Or.inl rfl, Or.inl rfl, Or.inl rfl, Or.inr rfl, Or.inl rfl, trivial⟩ ?_
    exact K
theorem fX11_sortLists_7f_ok {w : Wd} {l : Launch} {G : Cx} {m dd : Dt} {a1 : Int} {d' : Dt} {s : Dt × Int} {x : ((Dt × Int) ⊕ Dt)} (F : Fx w G cX11_sortLists RX11 5 none { frames := 0, cells := 0, slots := 0, locals := 0 }) (hX : WF dd m) (hp : PB m 1545 11) (h : fX11_sortLists_7f a1 s = some x) (K : (Sum.elim (fX11_sortLists_7P w l G (QM w G WF none d' m 0 0) m a1) (fun q => q = d')) x) : V w l WF G (QM w G WF none d' m 0 0) s.1 m 0 0 7 [mA 1545, mI a1, mI (s.2), mU, mU] [] := by
  obtain ⟨d, v2⟩ := s
  unfold fX11_sortLists_7f at h
  dsimp only at h
  refine v_iload_n F dX11_sortLists_7 rfl rfl ?_
  refine v_aload_n F dX11_sortLists_8 rfl rfl ?_
  refine gf_X11_1054 F dX11_sortLists_9 hp ?_
  refine v_icmp_ge F dX11_sortLists_12 rfl (fun hq2 => ?_) (fun hq2 => ?_)
  · rw [if_pos hq2] at h
    obtain ⟨z, hu, ez⟩ := up_some h
    clear h
    subst ez
    have h := hu
    clear hu
    cases h
    cases (show _ = d' from K)
    exact v_vret F dX11_sortLists_154
  · rw [if_neg hq2] at h
    refine v_iload_n F dX11_sortLists_15 rfl rfl ?_
    refine v_if_eq F dX11_sortLists_16 rfl (fun hq3 => ?_) (fun hq3 => ?_)
    · rw [if_pos hq3] at h
      refine v_aload_n F dX11_sortLists_23 rfl rfl ?_
      refine gf_X11_1054 F dX11_sortLists_24 hp ?_
      refine v_iconst F dX11_sortLists_27 ⟨by decide, by decide⟩ ?_
      refine v_isub F dX11_sortLists_28 ?_
      refine v_iload_n F dX11_sortLists_29 rfl rfl ?_
      refine v_isub F dX11_sortLists_30 ?_
      exact fX11_sortLists_31_ok F hX hp h K
    · rw [if_neg hq3] at h
      refine v_iload_n F dX11_sortLists_19 rfl rfl ?_
      refine v_goto F dX11_sortLists_20 rfl ?_
      exact fX11_sortLists_31_ok F hX hp h K
theorem fX11_sortLists_7_ok {w : Wd} {l : Launch} {G : Cx} {d m dd : Dt} {a1 v2 : Int} {d' : Dt} {x : Dt} (F : Fx w G cX11_sortLists RX11 5 none { frames := 0, cells := 0, slots := 0, locals := 0 }) (hX : WF dd m) (hp : PB m 1545 11) (h : fX11_sortLists_7 d a1 v2 = some x) (K : (fun q => q = d') x) : V w l WF G (QM w G WF none d' m 0 0) d m 0 0 7 [mA 1545, mI a1, mI v2, mU, mU] [] := by
  unfold fX11_sortLists_7 at h
  exact loop_ok (P := fX11_sortLists_7P w l G (QM w G WF none d' m 0 0) m a1) (fun s x hx h1 h2 => fX11_sortLists_7f_ok F hX hp hx (by
    cases x with
    | inl s' => exact h1 s' rfl
    | inr z => cases h2 z rfl; exact K)) h
theorem vm_X11_sortLists {w : Wd} {l : Launch} {d m : Dt} {a1 : Int} {d' : Dt} (hp : PB m 1545 11) (h : fX11_sortLists d a1 = some d') : VM w l WF yX11_sortLists cX11_sortLists 5 none 0 0 0 0 d m [mA 1545, mI a1] none d' m := by
  obtain ⟨x, h, K⟩ : ∃ x, fX11_sortLists d a1 = some x ∧ x = d' := ⟨_, h, rfl⟩
  refine VM.of (L := [mA 1545, mI a1, mU, mU, mU]) (by decide +kernel) rfl (Nat.le_of_ble_eq_true rfl) fun G F _ => v_fact fun _ hX _ _ => ?_
  unfold fX11_sortLists at h
  refine v_aload_n F dX11_sortLists_0 rfl rfl ?_
  refine v_iconst F dX11_sortLists_1 ⟨by decide, by decide⟩ ?_
  obtain ⟨d1, ed1, h⟩ := sd_some h
  refine pf_X11_798 F dX11_sortLists_2 hp ?_
  refine v_nD ed1 ?_
  refine v_iconst F dX11_sortLists_5 ⟨by decide, by decide⟩ ?_
  refine v_istore_n F dX11_sortLists_6 rfl (Nat.le_of_ble_eq_true rfl) (L' := [mA 1545, mI a1, mI 0, mU, mU]) rfl ?_
  exact fX11_sortLists_7_ok F hX hp h K
theorem vm_X11_hasPlace {w : Wd} {l : Launch} {d m : Dt} {a1 a2 : Int} {r : Int} (hp : PB m 1545 11) (h : fX11_hasPlace d a1 a2 = some r) : VM w l WF yX11_hasPlace cX11_hasPlace 3 (some .boolean) 0 0 0 0 d m [mA 1545, mI a1, mI a2] (some (mI r)) d m := by
  obtain ⟨x, h, K⟩ : ∃ x, fX11_hasPlace d a1 a2 = some x ∧ x = r := ⟨_, h, rfl⟩
  refine VM.of (L := [mA 1545, mI a1, mI a2]) (by decide +kernel) rfl (Nat.le_of_ble_eq_true rfl) fun G F _ => v_fact fun _ hX _ _ => ?_
  unfold fX11_hasPlace at h
  refine v_aload_n F dX11_hasPlace_0 rfl rfl ?_
  refine gf_X11_1072 F dX11_hasPlace_1 hp (v := 1645) rfl ?_
  refine v_iload_n F dX11_hasPlace_4 rfl rfl ?_
  obtain ⟨hi1, h⟩ := ck_some h
  refine v_zald F dX11_hasPlace_5 (ar_X11_142 hX hp) hi1 ?_
  refine v_if_eq F dX11_hasPlace_6 rfl (fun hq2 => ?_) (fun hq2 => ?_)
  · rw [if_pos hq2] at h
    refine v_iconst F dX11_hasPlace_32 ⟨by decide, by decide⟩ ?_
    cases h
    cases (show _ = r from K)
    exact v_zret F (Or.inl rfl) dX11_hasPlace_33
  · rw [if_neg hq2] at h
    refine v_iload_n F dX11_hasPlace_9 rfl rfl ?_
    refine v_if_eq F dX11_hasPlace_10 rfl (fun hq3 => ?_) (fun hq3 => ?_)
    · rw [if_pos hq3] at h
      refine v_iconst F dX11_hasPlace_28 ⟨by decide, by decide⟩ ?_
      refine v_goto F dX11_hasPlace_29 rfl ?_
      cases h
      cases (show _ = r from K)
      exact v_zret F (Or.inr rfl) dX11_hasPlace_33
    · rw [if_neg hq3] at h
      refine v_aload_n F dX11_hasPlace_13 rfl rfl ?_
      refine gf_X11_1075 F dX11_hasPlace_14 hp (v := 1646) rfl ?_
      refine v_iload_n F dX11_hasPlace_17 rfl rfl ?_
      refine v_iald F dX11_hasPlace_18 (ar_X11_143 hX hp) hi1 ?_
      refine v_aload_n F dX11_hasPlace_19 rfl rfl ?_
      refine gf_X11_1060 F dX11_hasPlace_20 hp (v := 1644) rfl ?_
      refine v_iload_n F dX11_hasPlace_23 rfl rfl ?_
      refine v_iald F dX11_hasPlace_24 (ar_X11_141 hX hp) hi1 ?_
      refine v_icmp_ge F dX11_hasPlace_25 rfl (fun hq4 => ?_) (fun hq4 => ?_)
      · rw [if_pos hq4] at h
        refine v_iconst F dX11_hasPlace_32 ⟨by decide, by decide⟩ ?_
        cases h
        cases (show _ = r from K)
        exact v_zret F (Or.inl rfl) dX11_hasPlace_33
      · rw [if_neg hq4] at h
        refine v_iconst F dX11_hasPlace_28 ⟨by decide, by decide⟩ ?_
        refine v_goto F dX11_hasPlace_29 rfl ?_
        cases h
        cases (show _ = r from K)
        exact v_zret F (Or.inr rfl) dX11_hasPlace_33
def fX11_dealByQuota_12P (w : Wd) (l : Launch) (G : Cx) (Q : State → Prop) (m : Dt) (a1 a2 a3 v4 : Int) (s : Dt × Int × Int) : Prop := V w l WF G Q s.1 m 0 0 12 [mA 1545, mI a1, mI a2, mI a3, mI v4, mI (s.2.1), mI (s.2.2), mU, mU, mU] []
def fX11_dealByQuota_170P (w : Wd) (l : Launch) (G : Cx) (Q : State → Prop) (m : Dt) (a1 a2 a3 : Int) (s : Dt × Int) : Prop := V w l WF G Q s.1 m 0 0 170 [mA 1545, mU, mI a2, mI a3, mU, mI (s.2), mU, mU, mU, mU] []
def fX11_dealByQuota_247P (w : Wd) (l : Launch) (G : Cx) (Q : State → Prop) (m : Dt) (a1 a2 a3 : Int) (s : Dt × Int × Int) : Prop := V w l WF G Q s.1 m 0 0 247 [mA 1545, mU, mI a2, mI a3, mU, mI (s.2.1), mI (s.2.2), mU, mU, mU] []
def fX11_dealByQuota_269P (w : Wd) (l : Launch) (G : Cx) (Q : State → Prop) (m : Dt) (a1 a2 a3 : Int) (s : Dt × Int × Int × Int) : Prop := V w l WF G Q s.1 m 0 0 269 [mA 1545, mU, mI a2, mI a3, mU, mI (s.2.1), mI (s.2.2.1), mI (s.2.2.2), mU, mU] []
theorem fX11_dealByQuota_269f_ok {w : Wd} {l : Launch} {G : Cx} {m dd : Dt} {a1 a2 a3 : Int} {d' : Dt} {s : Dt × Int × Int × Int} {x : ((Dt × Int × Int × Int) ⊕ ((Dt × Int × Int) ⊕ Dt))} (F : Fx w G cX11_dealByQuota RX11 10 none { frames := 1, cells := 0, slots := 0, locals := 24 }) (hX : WF dd m) (hp : PB m 1545 11) (h : fX11_dealByQuota_269f a1 a2 a3 s = some x) (K : (Sum.elim (fX11_dealByQuota_269P w l G (QM w G WF none d' m 0 0) m a1 a2 a3) (Sum.elim (fX11_dealByQuota_247P w l G (QM w G WF none d' m 0 0) m a1 a2 a3) (fun q => q = d'))) x) : V w l WF G (QM w G WF none d' m 0 0) s.1 m 0 0 269 [mA 1545, mU, mI a2, mI a3, mU, mI (s.2.1), mI (s.2.2.1), mI (s.2.2.2), mU, mU] [] := by
  obtain ⟨d, v5, v6, v7⟩ := s
  unfold fX11_dealByQuota_269f at h
  dsimp only at h
  refine v_iload F dX11_dealByQuota_269 rfl ?_
  refine v_aload_n F dX11_dealByQuota_271 rfl rfl ?_
  refine gf_X11_798 F dX11_dealByQuota_272 hp ?_
  refine v_icmp_ge F dX11_dealByQuota_275 rfl (fun hq9 => ?_) (fun hq9 => ?_)
  · rw [if_pos hq9] at h
    obtain ⟨z, hu, ez⟩ := up_some h
    clear h
    subst ez
    have h := hu
    clear hu
    refine v_goto F dX11_dealByQuota_329 rfl ?_
    cases h
    refine v_fgt (L' := [mA 1545, mU, mI a2, mI a3, mU, mI v5, mI v6, mU, mU, mU]) ⟨Or.inl rfl, Or.inl rfl, Or.inl rfl, Or.inl rfl, Or.inl rfl, Or.inl rfl, Or.inl rfl, Or.inr rfl, Or.inl rfl, Or.inl rfl, trivial⟩ ?_
    exact K
  · rw [if_neg hq9] at h
    refine v_iload F dX11_dealByQuota_278 rfl ?_
    refine v_iload_n F dX11_dealByQuota_280 rfl rfl ?_
    refine v_icmp_ge F dX11_dealByQuota_281 rfl (fun hq10 => ?_) (fun hq10 => ?_)
    · rw [if_pos hq10] at h
      obtain ⟨z, hu, ez⟩ := up_some h
      clear h
      subst ez
      have h := hu
      clear hu
      refine v_goto F dX11_dealByQuota_329 rfl ?_
      cases h
      refine v_fgt (L' := [mA 1545, mU, mI a2, mI a3, mU, mI v5, mI v6, mU, mU, mU]) ⟨Or.inl rfl, Or.inl rfl, Or.inl rfl, Or.inl rfl, Or.inl rfl, Or.inl rfl, Or.inl rfl, Or.inr rfl, Or.inl rfl, Or.inl rfl, trivial⟩ ?_
      exact K
    · rw [if_neg hq10] at h
      refine v_aload_n F dX11_dealByQuota_284 rfl rfl ?_
      refine gf_X11_1097 F dX11_dealByQuota_285 hp (v := 1650) rfl ?_
      refine v_iload F dX11_dealByQuota_288 rfl ?_
      obtain ⟨hi11, h⟩ := ck_some h
      refine v_iald F dX11_dealByQuota_290 (ar_X11_147 hX hp) hi11 ?_
      obtain ⟨x12, ex12, h⟩ := lv_some h
      refine v_nI ex12 ?_
      refine v_istore F dX11_dealByQuota_291 (Nat.le_of_ble_eq_true rfl) (L' := [mA 1545, mU, mI a2, mI a3, mU, mI v5, mI v6, mI v7, mI x12, mU]) rfl ?_
      refine v_aload_n F dX11_dealByQuota_293 rfl rfl ?_
      refine v_iload F dX11_dealByQuota_294 rfl ?_
      refine v_iload_n F dX11_dealByQuota_296 rfl rfl ?_
      obtain ⟨x13, hc14, h⟩ := b1_some h
      refine v_callVv (c := 11) F dX11_dealByQuota_297 cv_X11_1082 rfl (PB.ob hp hX (Nat.le_of_ble_eq_true rfl)) (Nat.le_of_ble_eq_true rfl) rfl (vm_X11_hasPlace hp hc14) rfl (rOk.of rfl) ?_
      refine v_if_ne F dX11_dealByQuota_300 rfl (fun hq15 => ?_) (fun hq15 => ?_)
      · rw [if_neg hq15] at h
        refine v_aload_n F dX11_dealByQuota_306 rfl rfl ?_
        refine gf_X11_1075 F dX11_dealByQuota_307 hp (v := 1646) rfl ?_
        refine v_iload F dX11_dealByQuota_310 rfl ?_
        refine v_dup2_IA F dX11_dealByQuota_312 ?_
        obtain ⟨hi16, h⟩ := ck_some h
        refine v_iald F dX11_dealByQuota_313 (ar_X11_143 hX hp) hi16 ?_
        refine v_iconst F dX11_dealByQuota_314 ⟨by decide, by decide⟩ ?_
        refine v_iadd F dX11_dealByQuota_315 ?_
        obtain ⟨d17, ed17, h⟩ := sd_some h
        refine v_iast F dX11_dealByQuota_316 (ar_X11_143 hX hp) hi16 ?_
        refine v_nD ed17 ?_
        obtain ⟨x18, ex18, h⟩ := lv_some h
        refine v_iincN F dX11_dealByQuota_317 (Nat.le_of_ble_eq_true rfl) rfl ex18 (L' := [mA 1545, mU, mI a2, mI a3, mU, mI x18, mI v6, mI v7, mI x12, mU]) rfl ?_
        refine v_iconst F dX11_dealByQuota_320 ⟨by decide, by decide⟩ ?_
        refine v_istore F dX11_dealByQuota_321 (Nat.le_of_ble_eq_true rfl) (L' := [mA 1545, mU, mI a2, mI a3, mU, mI x18, mI 1, mI v7, mI x12, mU]) rfl ?_
        obtain ⟨x19, ex19, h⟩ := lv_some h
        refine v_iincN F dX11_dealByQuota_323 (Nat.le_of_ble_eq_true rfl) rfl ex19 (L' := [mA 1545, mU, mI a2, mI a3, mU, mI x18, mI 1, mI x19, mI x12, mU]) rfl ?_
        refine v_goto F dX11_dealByQuota_326 rfl ?_
        cases h
        refine v_fgt (L' := [mA 1545, mU, mI a2, mI a3, mU, mI x18, mI 1, mI x19, mU, mU]) ⟨Or.inl rfl, Or.inl rfl, Or.inl rfl, Or.inl rfl, Or.inl rfl, Or.inl rfl, Or.inl rfl, Or.inl rfl, Or.inr rfl, Or.inl rfl, trivial⟩ ?_
        exact K
      · rw [if_pos hq15] at h
        refine v_goto F dX11_dealByQuota_303 rfl ?_
        obtain ⟨x20, ex20, h⟩ := lv_some h
        refine v_iincN F dX11_dealByQuota_323 (Nat.le_of_ble_eq_true rfl) rfl ex20 (L' := [mA 1545, mU, mI a2, mI a3, mU, mI v5, mI v6, mI x20, mI x12, mU]) rfl ?_
        refine v_goto F dX11_dealByQuota_326 rfl ?_
        cases h
        refine v_fgt (L' := [mA 1545, mU, mI a2, mI a3, mU, mI v5, mI v6, mI x20, mU, mU]) ⟨Or.inl rfl, Or.inl rfl, Or.inl rfl, Or.inl rfl, Or.inl rfl, Or.inl rfl, Or.inl rfl, Or.inl rfl, Or.inr rfl, Or.inl rfl, trivial⟩ ?_
        exact K
theorem fX11_dealByQuota_269_ok {w : Wd} {l : Launch} {G : Cx} {d m dd : Dt} {a1 a2 a3 v5 v6 v7 : Int} {d' : Dt} {x : ((Dt × Int × Int) ⊕ Dt)} (F : Fx w G cX11_dealByQuota RX11 10 none { frames := 1, cells := 0, slots := 0, locals := 24 }) (hX : WF dd m) (hp : PB m 1545 11) (h : fX11_dealByQuota_269 d a1 a2 a3 v5 v6 v7 = some x) (K : (Sum.elim (fX11_dealByQuota_247P w l G (QM w G WF none d' m 0 0) m a1 a2 a3) (fun q => q = d')) x) : V w l WF G (QM w G WF none d' m 0 0) d m 0 0 269 [mA 1545, mU, mI a2, mI a3, mU, mI v5, mI v6, mI v7, mU, mU] [] := by
  unfold fX11_dealByQuota_269 at h
  exact loop_ok (P := fX11_dealByQuota_269P w l G (QM w G WF none d' m 0 0) m a1 a2 a3) (fun s x hx h1 h2 => fX11_dealByQuota_269f_ok F hX hp hx (by
    cases x with
    | inl s' => exact h1 s' rfl
    | inr z => cases h2 z rfl; exact K)) h
theorem fX11_dealByQuota_247f_ok {w : Wd} {l : Launch} {G : Cx} {m dd : Dt} {a1 a2 a3 : Int} {d' : Dt} {s : Dt × Int × Int} {x : ((Dt × Int × Int) ⊕ Dt)} (F : Fx w G cX11_dealByQuota RX11 10 none { frames := 1, cells := 0, slots := 0, locals := 24 }) (hX : WF dd m) (hp : PB m 1545 11) (h : fX11_dealByQuota_247f a1 a2 a3 s = some x) (K : (Sum.elim (fX11_dealByQuota_247P w l G (QM w G WF none d' m 0 0) m a1 a2 a3) (fun q => q = d')) x) : V w l WF G (QM w G WF none d' m 0 0) s.1 m 0 0 247 [mA 1545, mU, mI a2, mI a3, mU, mI (s.2.1), mI (s.2.2), mU, mU, mU] [] := by
  obtain ⟨d, v5, v6⟩ := s
  unfold fX11_dealByQuota_247f at h
  dsimp only at h
  refine v_iload F dX11_dealByQuota_247 rfl ?_
  refine v_iload_n F dX11_dealByQuota_249 rfl rfl ?_
  refine v_icmp_ge F dX11_dealByQuota_250 rfl (fun hq5 => ?_) (fun hq5 => ?_)
  · rw [if_pos hq5] at h
    obtain ⟨z, hu, ez⟩ := up_some h
    clear h
    subst ez
    have h := hu
    clear hu
    cases h
    cases (show _ = d' from K)
    exact v_vret F dX11_dealByQuota_332
  · rw [if_neg hq5] at h
    refine v_iload F dX11_dealByQuota_253 rfl ?_
    refine v_if_eq F dX11_dealByQuota_255 rfl (fun hq6 => ?_) (fun hq6 => ?_)
    · rw [if_pos hq6] at h
      obtain ⟨z, hu, ez⟩ := up_some h
      clear h
      subst ez
      have h := hu
      clear hu
      cases h
      cases (show _ = d' from K)
      exact v_vret F dX11_dealByQuota_332
    · rw [if_neg hq6] at h
      refine v_aload_n F dX11_dealByQuota_258 rfl rfl ?_
      refine v_iconst F dX11_dealByQuota_259 ⟨by decide, by decide⟩ ?_
      obtain ⟨d7, hc8, h⟩ := bd_some h
      refine v_callV0 (c := 11) F dX11_dealByQuota_260 cv_X11_1094 rfl (PB.ob hp hX (Nat.le_of_ble_eq_true rfl)) (Nat.le_of_ble_eq_true rfl) rfl (vm_X11_sortLists hp hc8) rfl (rOk.of rfl) ?_
      refine v_iconst F dX11_dealByQuota_263 ⟨by decide, by decide⟩ ?_
      refine v_istore F dX11_dealByQuota_264 (Nat.le_of_ble_eq_true rfl) (L' := [mA 1545, mU, mI a2, mI a3, mU, mI v5, mI 0, mU, mU, mU]) rfl ?_
      refine v_iconst F dX11_dealByQuota_266 ⟨by decide, by decide⟩ ?_
      refine v_istore F dX11_dealByQuota_267 (Nat.le_of_ble_eq_true rfl) (L' := [mA 1545, mU, mI a2, mI a3, mU, mI v5, mI 0, mI 0, mU, mU]) rfl ?_
      exact fX11_dealByQuota_269_ok F hX hp h K
theorem fX11_dealByQuota_247_ok {w : Wd} {l : Launch} {G : Cx} {d m dd : Dt} {a1 a2 a3 v5 v6 : Int} {d' : Dt} {x : Dt} (F : Fx w G cX11_dealByQuota RX11 10 none { frames := 1, cells := 0, slots := 0, locals := 24 }) (hX : WF dd m) (hp : PB m 1545 11) (h : fX11_dealByQuota_247 d a1 a2 a3 v5 v6 = some x) (K : (fun q => q = d') x) : V w l WF G (QM w G WF none d' m 0 0) d m 0 0 247 [mA 1545, mU, mI a2, mI a3, mU, mI v5, mI v6, mU, mU, mU] [] := by
  unfold fX11_dealByQuota_247 at h
  exact loop_ok (P := fX11_dealByQuota_247P w l G (QM w G WF none d' m 0 0) m a1 a2 a3) (fun s x hx h1 h2 => fX11_dealByQuota_247f_ok F hX hp hx (by
    cases x with
    | inl s' => exact h1 s' rfl
    | inr z => cases h2 z rfl; exact K)) h
def fX11_dealByQuota_184P (w : Wd) (l : Launch) (G : Cx) (Q : State → Prop) (m : Dt) (a1 a2 a3 : Int) (s : Dt × Int × Int) : Prop := V w l WF G Q s.1 m 0 0 184 [mA 1545, mU, mI a2, mI a3, mU, mI (s.2.1), mI (s.2.2), mU, mU, mU] []
theorem fX11_dealByQuota_184f_ok {w : Wd} {l : Launch} {G : Cx} {m dd : Dt} {a1 a2 a3 : Int} {d' : Dt} {s : Dt × Int × Int} {x : ((Dt × Int × Int) ⊕ ((Dt × Int) ⊕ Dt))} (F : Fx w G cX11_dealByQuota RX11 10 none { frames := 1, cells := 0, slots := 0, locals := 24 }) (hX : WF dd m) (hp : PB m 1545 11) (h : fX11_dealByQuota_184f a1 a2 a3 s = some x) (K : (Sum.elim (fX11_dealByQuota_184P w l G (QM w G WF none d' m 0 0) m a1 a2 a3) (Sum.elim (fX11_dealByQuota_170P w l G (QM w G WF none d' m 0 0) m a1 a2 a3) (fun q => q = d'))) x) : V w l WF G (QM w G WF none d' m 0 0) s.1 m 0 0 184 [mA 1545, mU, mI a2, mI a3, mU, mI (s.2.1), mI (s.2.2), mU, mU, mU] [] := by
  obtain ⟨d, v5, v6⟩ := s
  unfold fX11_dealByQuota_184f at h
  dsimp only at h
  refine v_iload F dX11_dealByQuota_184 rfl ?_
  refine v_aload_n F dX11_dealByQuota_186 rfl rfl ?_
  refine gf_X11_798 F dX11_dealByQuota_187 hp ?_
  refine v_icmp_ge F dX11_dealByQuota_190 rfl (fun hq23 => ?_) (fun hq23 => ?_)
  · rw [if_pos hq23] at h
    obtain ⟨z, hu, ez⟩ := up_some h
    clear h
    subst ez
    have h := hu
    clear hu
    refine v_goto F dX11_dealByQuota_241 rfl ?_
    cases h
    refine v_fgt (L' := [mA 1545, mU, mI a2, mI a3, mU, mI v5, mU, mU, mU, mU]) ⟨Or.inl rfl, Or.inl rfl, Or.inl rfl, Or.inl rfl, Or.inl rfl, Or.inl rfl, Or.inr rfl, Or.inl rfl, Or.inl rfl, Or.inl rfl, trivial⟩ ?_
    exact K
  · rw [if_neg hq23] at h
    refine v_iload F dX11_dealByQuota_193 rfl ?_
    refine v_iload_n F dX11_dealByQuota_195 rfl rfl ?_
    refine v_icmp_le F dX11_dealByQuota_196 rfl (fun hq24 => ?_) (fun hq24 => ?_)
    · rw [if_pos hq24] at h
      obtain ⟨z, hu, ez⟩ := up_some h
      clear h
      subst ez
      have h := hu
      clear hu
      refine v_goto F dX11_dealByQuota_241 rfl ?_
      cases h
      refine v_fgt (L' := [mA 1545, mU, mI a2, mI a3, mU, mI v5, mU, mU, mU, mU]) ⟨Or.inl rfl, Or.inl rfl, Or.inl rfl, Or.inl rfl, Or.inl rfl, Or.inl rfl, Or.inr rfl, Or.inl rfl, Or.inl rfl, Or.inl rfl, trivial⟩ ?_
      exact K
    · rw [if_neg hq24] at h
      refine v_aload_n F dX11_dealByQuota_199 rfl rfl ?_
      refine gf_X11_1097 F dX11_dealByQuota_200 hp (v := 1650) rfl ?_
      refine v_iload F dX11_dealByQuota_203 rfl ?_
      obtain ⟨hi25, h⟩ := ck_some h
      refine v_iald F dX11_dealByQuota_205 (ar_X11_147 hX hp) hi25 ?_
      obtain ⟨x26, ex26, h⟩ := lv_some h
      refine v_nI ex26 ?_
      refine v_istore F dX11_dealByQuota_206 (Nat.le_of_ble_eq_true rfl) (L' := [mA 1545, mU, mI a2, mI a3, mU, mI v5, mI v6, mI x26, mU, mU]) rfl ?_
      refine v_aload_n F dX11_dealByQuota_208 rfl rfl ?_
      refine gf_X11_1075 F dX11_dealByQuota_209 hp (v := 1646) rfl ?_
      refine v_iload F dX11_dealByQuota_212 rfl ?_
      obtain ⟨hi27, h⟩ := ck_some h
      refine v_iald F dX11_dealByQuota_214 (ar_X11_143 hX hp) hi27 ?_
      refine v_if_ne F dX11_dealByQuota_215 rfl (fun hq28 => ?_) (fun hq28 => ?_)
      · rw [if_neg hq28] at h
        refine v_aload_n F dX11_dealByQuota_221 rfl rfl ?_
        refine gf_X11_1075 F dX11_dealByQuota_222 hp (v := 1646) rfl ?_
        refine v_iload F dX11_dealByQuota_225 rfl ?_
        refine v_dup2_IA F dX11_dealByQuota_227 ?_
        refine v_iald F dX11_dealByQuota_228 (ar_X11_143 hX hp) hi27 ?_
        refine v_iconst F dX11_dealByQuota_229 ⟨by decide, by decide⟩ ?_
        refine v_isub F dX11_dealByQuota_230 ?_
        obtain ⟨d29, ed29, h⟩ := sd_some h
        refine v_iast F dX11_dealByQuota_231 (ar_X11_143 hX hp) hi27 ?_
        refine v_nD ed29 ?_
        obtain ⟨x30, ex30, h⟩ := lv_some h
        refine v_iincN F dX11_dealByQuota_232 (Nat.le_of_ble_eq_true rfl) rfl ex30 (L' := [mA 1545, mU, mI a2, mI a3, mU, mI x30, mI v6, mI x26, mU, mU]) rfl ?_
        obtain ⟨x31, ex31, h⟩ := lv_some h
        refine v_iincN F dX11_dealByQuota_235 (Nat.le_of_ble_eq_true rfl) rfl ex31 (L' := [mA 1545, mU, mI a2, mI a3, mU, mI x30, mI x31, mI x26, mU, mU]) rfl ?_
        refine v_goto F dX11_dealByQuota_238 rfl ?_
        cases h
        refine v_fgt (L' := [mA 1545, mU, mI a2, mI a3, mU, mI x30, mI x31, mU, mU, mU]) ⟨Or.inl rfl, Or.inl rfl, Or.inl rfl, Or.inl rfl, Or.inl rfl, Or.inl rfl, Or.inl rfl, Or.inr rfl, Or.inl rfl, Or.inl rfl, trivial⟩ ?_
        exact K
      · rw [if_pos hq28] at h
        refine v_goto F dX11_dealByQuota_218 rfl ?_
        obtain ⟨x32, ex32, h⟩ := lv_some h
        refine v_iincN F dX11_dealByQuota_235 (Nat.le_of_ble_eq_true rfl) rfl ex32 (L' := [mA 1545, mU, mI a2, mI a3, mU, mI v5, mI x32, mI x26, mU, mU]) rfl ?_
        refine v_goto F dX11_dealByQuota_238 rfl ?_
        cases h
        refine v_fgt (L' := [mA 1545, mU, mI a2, mI a3, mU, mI v5, mI x32, mU, mU, mU]) ⟨Or.inl rfl, Or.inl rfl, Or.inl rfl, Or.inl rfl, Or.inl rfl, Or.inl rfl, Or.inl rfl, Or.inr rfl, Or.inl rfl, Or.inl rfl, trivial⟩ ?_
        exact K
theorem fX11_dealByQuota_184_ok {w : Wd} {l : Launch} {G : Cx} {d m dd : Dt} {a1 a2 a3 v5 v6 : Int} {d' : Dt} {x : ((Dt × Int) ⊕ Dt)} (F : Fx w G cX11_dealByQuota RX11 10 none { frames := 1, cells := 0, slots := 0, locals := 24 }) (hX : WF dd m) (hp : PB m 1545 11) (h : fX11_dealByQuota_184 d a1 a2 a3 v5 v6 = some x) (K : (Sum.elim (fX11_dealByQuota_170P w l G (QM w G WF none d' m 0 0) m a1 a2 a3) (fun q => q = d')) x) : V w l WF G (QM w G WF none d' m 0 0) d m 0 0 184 [mA 1545, mU, mI a2, mI a3, mU, mI v5, mI v6, mU, mU, mU] [] := by
  unfold fX11_dealByQuota_184 at h
  exact loop_ok (P := fX11_dealByQuota_184P w l G (QM w G WF none d' m 0 0) m a1 a2 a3) (fun s x hx h1 h2 => fX11_dealByQuota_184f_ok F hX hp hx (by
    cases x with
    | inl s' => exact h1 s' rfl
    | inr z => cases h2 z rfl; exact K)) h
theorem fX11_dealByQuota_170f_ok {w : Wd} {l : Launch} {G : Cx} {m dd : Dt} {a1 a2 a3 : Int} {d' : Dt} {s : Dt × Int} {x : ((Dt × Int) ⊕ Dt)} (F : Fx w G cX11_dealByQuota RX11 10 none { frames := 1, cells := 0, slots := 0, locals := 24 }) (hX : WF dd m) (hp : PB m 1545 11) (h : fX11_dealByQuota_170f a1 a2 a3 s = some x) (K : (Sum.elim (fX11_dealByQuota_170P w l G (QM w G WF none d' m 0 0) m a1 a2 a3) (fun q => q = d')) x) : V w l WF G (QM w G WF none d' m 0 0) s.1 m 0 0 170 [mA 1545, mU, mI a2, mI a3, mU, mI (s.2), mU, mU, mU, mU] [] := by
  obtain ⟨d, v5⟩ := s
  unfold fX11_dealByQuota_170f at h
  dsimp only at h
  refine v_iload F dX11_dealByQuota_170 rfl ?_
  refine v_iload_n F dX11_dealByQuota_172 rfl rfl ?_
  refine v_icmp_le F dX11_dealByQuota_173 rfl (fun hq4 => ?_) (fun hq4 => ?_)
  · rw [if_pos hq4] at h
    obtain ⟨z, hu, ez⟩ := up_some h
    clear h
    subst ez
    have h := hu
    clear hu
    refine v_iconst F dX11_dealByQuota_244 ⟨by decide, by decide⟩ ?_
    refine v_istore F dX11_dealByQuota_245 (Nat.le_of_ble_eq_true rfl) (L' := [mA 1545, mU, mI a2, mI a3, mU, mI v5, mI 1, mU, mU, mU]) rfl ?_
    exact fX11_dealByQuota_247_ok F hX hp h K
  · rw [if_neg hq4] at h
    refine v_aload_n F dX11_dealByQuota_176 rfl rfl ?_
    refine v_iconst F dX11_dealByQuota_177 ⟨by decide, by decide⟩ ?_
    obtain ⟨d21, hc22, h⟩ := bd_some h
    refine v_callV0 (c := 11) F dX11_dealByQuota_178 cv_X11_1094 rfl (PB.ob hp hX (Nat.le_of_ble_eq_true rfl)) (Nat.le_of_ble_eq_true rfl) rfl (vm_X11_sortLists hp hc22) rfl (rOk.of rfl) ?_
    refine v_iconst F dX11_dealByQuota_181 ⟨by decide, by decide⟩ ?_
    refine v_istore F dX11_dealByQuota_182 (Nat.le_of_ble_eq_true rfl) (L' := [mA 1545, mU, mI a2, mI a3, mU, mI v5, mI 0, mU, mU, mU]) rfl ?_
    exact fX11_dealByQuota_184_ok F hX hp h K
theorem fX11_dealByQuota_170_ok {w : Wd} {l : Launch} {G : Cx} {d m dd : Dt} {a1 a2 a3 v5 : Int} {d' : Dt} {x : Dt} (F : Fx w G cX11_dealByQuota RX11 10 none { frames := 1, cells := 0, slots := 0, locals := 24 }) (hX : WF dd m) (hp : PB m 1545 11) (h : fX11_dealByQuota_170 d a1 a2 a3 v5 = some x) (K : (fun q => q = d') x) : V w l WF G (QM w G WF none d' m 0 0) d m 0 0 170 [mA 1545, mU, mI a2, mI a3, mU, mI v5, mU, mU, mU, mU] [] := by
  unfold fX11_dealByQuota_170 at h
  exact loop_ok (P := fX11_dealByQuota_170P w l G (QM w G WF none d' m 0 0) m a1 a2 a3) (fun s x hx h1 h2 => fX11_dealByQuota_170f_ok F hX hp hx (by
    cases x with
    | inl s' => exact h1 s' rfl
    | inr z => cases h2 z rfl; exact K)) h
theorem fX11_dealByQuota_151_ok {w : Wd} {l : Launch} {G : Cx} {d m dd : Dt} {a1 a2 a3 v4 v5 v6 s1 s2 : Int} {d' : Dt} {x : ((Dt × Int × Int) ⊕ Dt)} (F : Fx w G cX11_dealByQuota RX11 10 none { frames := 1, cells := 0, slots := 0, locals := 24 }) (hX : WF dd m) (hp : PB m 1545 11) (h : fX11_dealByQuota_151 d a1 a2 a3 v4 v5 v6 s1 s2 = some x) (K : (Sum.elim (fX11_dealByQuota_12P w l G (QM w G WF none d' m 0 0) m a1 a2 a3 v4) (fun q => q = d')) x) : V w l WF G (QM w G WF none d' m 0 0) d m 0 0 151 [mA 1545, mI a1, mI a2, mI a3, mI v4, mI v5, mI v6, mU, mU, mU] [mI s2, mI s1, mA 1646] := by
  unfold fX11_dealByQuota_151 at h
  obtain ⟨hi45, h⟩ := ck_some h
  obtain ⟨d46, ed46, h⟩ := sd_some h
  refine v_iast F dX11_dealByQuota_151 (ar_X11_143 hX hp) hi45 ?_
  refine v_nD ed46 ?_
  refine v_iload F dX11_dealByQuota_152 rfl ?_
  refine v_aload_n F dX11_dealByQuota_154 rfl rfl ?_
  refine gf_X11_1075 F dX11_dealByQuota_155 hp (v := 1646) rfl ?_
  refine v_iload F dX11_dealByQuota_158 rfl ?_
  obtain ⟨hi47, h⟩ := ck_some h
  refine v_iald F dX11_dealByQuota_160 (ar_X11_143 hX hp) hi47 ?_
  refine v_iadd F dX11_dealByQuota_161 ?_
  obtain ⟨x48, ex48, h⟩ := lv_some h
  refine v_nI ex48 ?_
  refine v_istore F dX11_dealByQuota_162 (Nat.le_of_ble_eq_true rfl) (L' := [mA 1545, mI a1, mI a2, mI a3, mI v4, mI x48, mI v6, mU, mU, mU]) rfl ?_
  obtain ⟨x49, ex49, h⟩ := lv_some h
  refine v_iincN F dX11_dealByQuota_164 (Nat.le_of_ble_eq_true rfl) rfl ex49 (L' := [mA 1545, mI a1, mI a2, mI a3, mI v4, mI x48, mI x49, mU, mU, mU]) rfl ?_
  refine v_goto F dX11_dealByQuota_167 rfl ?_
  cases h
  exact K
theorem fX11_dealByQuota_87_ok {w : Wd} {l : Launch} {G : Cx} {d m dd : Dt} {a1 a2 a3 v4 v5 v6 v7 s0 : Int} {d' : Dt} {x : ((Dt × Int × Int) ⊕ Dt)} (F : Fx w G cX11_dealByQuota RX11 10 none { frames := 1, cells := 0, slots := 0, locals := 24 }) (hX : WF dd m) (hp : PB m 1545 11) (h : fX11_dealByQuota_87 d a1 a2 a3 v4 v5 v6 v7 s0 = some x) (K : (Sum.elim (fX11_dealByQuota_12P w l G (QM w G WF none d' m 0 0) m a1 a2 a3 v4) (fun q => q = d')) x) : V w l WF G (QM w G WF none d' m 0 0) d m 0 0 87 [mA 1545, mI a1, mI a2, mI a3, mI v4, mI v5, mI v6, mI v7, mU, mU] [mI s0] := by
  unfold fX11_dealByQuota_87 at h
  refine v_istore F dX11_dealByQuota_87 (Nat.le_of_ble_eq_true rfl) (L' := [mA 1545, mI a1, mI a2, mI a3, mI v4, mI v5, mI v6, mI v7, mI s0, mU]) rfl ?_
  refine v_aload_n F dX11_dealByQuota_89 rfl rfl ?_
  refine gf_X11_1063 F dX11_dealByQuota_90 hp (v := 1643) rfl ?_
  refine v_iload F dX11_dealByQuota_93 rfl ?_
  obtain ⟨hi39, h⟩ := ck_some h
  refine v_iald F dX11_dealByQuota_95 (ar_X11_140 hX hp) hi39 ?_
  refine v_iload F dX11_dealByQuota_96 rfl ?_
  refine v_imul F dX11_dealByQuota_98 ?_
  refine v_iload F dX11_dealByQuota_99 rfl ?_
  obtain ⟨hz40, h⟩ := ck_some h
  refine v_idiv F dX11_dealByQuota_101 hz40 ?_
  obtain ⟨x41, ex41, h⟩ := lv_some h
  refine v_nI ex41 ?_
  refine v_istore F dX11_dealByQuota_102 (Nat.le_of_ble_eq_true rfl) (L' := [mA 1545, mI a1, mI a2, mI a3, mI v4, mI v5, mI v6, mI v7, mI s0, mI x41]) rfl ?_
  refine v_aload_n F dX11_dealByQuota_104 rfl rfl ?_
  refine gf_X11_1091 F dX11_dealByQuota_105 hp (v := 1647) rfl ?_
  refine v_iload F dX11_dealByQuota_108 rfl ?_
  refine v_aload_n F dX11_dealByQuota_110 rfl rfl ?_
  refine gf_X11_1063 F dX11_dealByQuota_111 hp (v := 1643) rfl ?_
  refine v_iload F dX11_dealByQuota_114 rfl ?_
  refine v_iald F dX11_dealByQuota_116 (ar_X11_140 hX hp) hi39 ?_
  refine v_iload F dX11_dealByQuota_117 rfl ?_
  refine v_imul F dX11_dealByQuota_119 ?_
  refine v_iload F dX11_dealByQuota_120 rfl ?_
  obtain ⟨hz42, h⟩ := ck_some h
  refine v_irem F dX11_dealByQuota_122 hz42 ?_
  obtain ⟨d43, ed43, h⟩ := sd_some h
  refine v_iast F dX11_dealByQuota_123 (ar_X11_144 hX hp) hi39 ?_
  refine v_nD ed43 ?_
  refine v_aload_n F dX11_dealByQuota_124 rfl rfl ?_
  refine gf_X11_1075 F dX11_dealByQuota_125 hp (v := 1646) rfl ?_
  refine v_iload F dX11_dealByQuota_128 rfl ?_
  refine v_iload_n F dX11_dealByQuota_130 rfl rfl ?_
  refine v_if_eq F dX11_dealByQuota_131 rfl (fun hq44 => ?_) (fun hq44 => ?_)
  · rw [if_pos hq44] at h
    refine v_iload F dX11_dealByQuota_149 rfl ?_
    refine v_fgt (L' := [mA 1545, mI a1, mI a2, mI a3, mI v4, mI v5, mI v6, mU, mU, mU]) ⟨Or.inl rfl, Or.inl rfl, Or.inl rfl, Or.inl rfl, Or.inl rfl, Or.inl rfl, Or.inl rfl, Or.inr rfl, Or.inr rfl, Or.inr rfl, trivial⟩ ?_
    exact fX11_dealByQuota_151_ok F hX hp h K
  · rw [if_neg hq44] at h
    refine v_iload F dX11_dealByQuota_134 rfl ?_
    refine v_aload_n F dX11_dealByQuota_136 rfl rfl ?_
    refine gf_X11_1060 F dX11_dealByQuota_137 hp (v := 1644) rfl ?_
    refine v_iload F dX11_dealByQuota_140 rfl ?_
    refine v_iald F dX11_dealByQuota_142 (ar_X11_141 hX hp) hi39 ?_
    refine v_callSv F dX11_dealByQuota_143 cs_X11_179 rfl (vm_J9_min) rfl (rOk.of rfl) ?_
    refine v_goto F dX11_dealByQuota_146 rfl ?_
    refine v_fgt (L' := [mA 1545, mI a1, mI a2, mI a3, mI v4, mI v5, mI v6, mU, mU, mU]) ⟨Or.inl rfl, Or.inl rfl, Or.inl rfl, Or.inl rfl, Or.inl rfl, Or.inl rfl, Or.inl rfl, Or.inr rfl, Or.inr rfl, Or.inr rfl, trivial⟩ ?_
    exact fX11_dealByQuota_151_ok F hX hp h K
theorem fX11_dealByQuota_66_ok {w : Wd} {l : Launch} {G : Cx} {d m dd : Dt} {a1 a2 a3 v4 v5 v6 s0 : Int} {d' : Dt} {x : ((Dt × Int × Int) ⊕ Dt)} (F : Fx w G cX11_dealByQuota RX11 10 none { frames := 1, cells := 0, slots := 0, locals := 24 }) (hX : WF dd m) (hp : PB m 1545 11) (h : fX11_dealByQuota_66 d a1 a2 a3 v4 v5 v6 s0 = some x) (K : (Sum.elim (fX11_dealByQuota_12P w l G (QM w G WF none d' m 0 0) m a1 a2 a3 v4) (fun q => q = d')) x) : V w l WF G (QM w G WF none d' m 0 0) d m 0 0 66 [mA 1545, mI a1, mI a2, mI a3, mI v4, mI v5, mI v6, mU, mU, mU] [mI s0] := by
  unfold fX11_dealByQuota_66 at h
  refine v_istore F dX11_dealByQuota_66 (Nat.le_of_ble_eq_true rfl) (L' := [mA 1545, mI a1, mI a2, mI a3, mI v4, mI v5, mI v6, mI s0, mU, mU]) rfl ?_
  refine v_iload_n F dX11_dealByQuota_68 rfl rfl ?_
  refine v_bipush F dX11_dealByQuota_69 rfl ⟨by decide, by decide⟩ ?_
  refine v_icmp_ne F dX11_dealByQuota_71 rfl (fun hq38 => ?_) (fun hq38 => ?_)
  · rw [if_neg hq38] at h
    refine v_iload F dX11_dealByQuota_85 rfl ?_
    exact fX11_dealByQuota_87_ok F hX hp h K
  · rw [if_pos hq38] at h
    refine v_iload F dX11_dealByQuota_74 rfl ?_
    refine v_iload_n F dX11_dealByQuota_76 rfl rfl ?_
    refine v_iconst F dX11_dealByQuota_77 ⟨by decide, by decide⟩ ?_
    refine v_iadd F dX11_dealByQuota_78 ?_
    obtain ⟨x50, ex50, h⟩ := lv_some h
    refine v_nI ex50 ?_
    obtain ⟨hz51, h⟩ := ck_some h
    refine v_idiv F dX11_dealByQuota_79 hz51 ?_
    refine v_iconst F dX11_dealByQuota_80 ⟨by decide, by decide⟩ ?_
    refine v_iadd F dX11_dealByQuota_81 ?_
    refine v_goto F dX11_dealByQuota_82 rfl ?_
    exact fX11_dealByQuota_87_ok F hX hp h K
theorem fX11_dealByQuota_65_ok {w : Wd} {l : Launch} {G : Cx} {d m dd : Dt} {a1 a2 a3 v4 v5 v6 s0 s1 : Int} {d' : Dt} {x : ((Dt × Int × Int) ⊕ Dt)} (F : Fx w G cX11_dealByQuota RX11 10 none { frames := 1, cells := 0, slots := 0, locals := 24 }) (hX : WF dd m) (hp : PB m 1545 11) (h : fX11_dealByQuota_65 d a1 a2 a3 v4 v5 v6 s0 s1 = some x) (K : (Sum.elim (fX11_dealByQuota_12P w l G (QM w G WF none d' m 0 0) m a1 a2 a3 v4) (fun q => q = d')) x) : V w l WF G (QM w G WF none d' m 0 0) d m 0 0 65 [mA 1545, mI a1, mI a2, mI a3, mI v4, mI v5, mI v6, mU, mU, mU] [mI s1, mI s0] := by
  unfold fX11_dealByQuota_65 at h
  refine v_iadd F dX11_dealByQuota_65 ?_
  exact fX11_dealByQuota_66_ok F hX hp h K
theorem fX11_dealByQuota_12f_ok {w : Wd} {l : Launch} {G : Cx} {m dd : Dt} {a1 a2 a3 v4 : Int} {d' : Dt} {s : Dt × Int × Int} {x : ((Dt × Int × Int) ⊕ Dt)} (F : Fx w G cX11_dealByQuota RX11 10 none { frames := 1, cells := 0, slots := 0, locals := 24 }) (hX : WF dd m) (hp : PB m 1545 11) (h : fX11_dealByQuota_12f a1 a2 a3 v4 s = some x) (K : (Sum.elim (fX11_dealByQuota_12P w l G (QM w G WF none d' m 0 0) m a1 a2 a3 v4) (fun q => q = d')) x) : V w l WF G (QM w G WF none d' m 0 0) s.1 m 0 0 12 [mA 1545, mI a1, mI a2, mI a3, mI v4, mI (s.2.1), mI (s.2.2), mU, mU, mU] [] := by
  obtain ⟨d, v5, v6⟩ := s
  unfold fX11_dealByQuota_12f at h
  dsimp only at h
  refine v_iload F dX11_dealByQuota_12 rfl ?_
  refine v_aload_n F dX11_dealByQuota_14 rfl rfl ?_
  refine gf_X11_1054 F dX11_dealByQuota_15 hp ?_
  refine v_icmp_ge F dX11_dealByQuota_18 rfl (fun hq3 => ?_) (fun hq3 => ?_)
  · rw [if_pos hq3] at h
    obtain ⟨z, hu, ez⟩ := up_some h
    clear h
    subst ez
    have h := hu
    clear hu
    refine v_fgt (L' := [mA 1545, mU, mI a2, mI a3, mU, mI v5, mU, mU, mU, mU]) ⟨Or.inl rfl, Or.inr rfl, Or.inl rfl, Or.inl rfl, Or.inr rfl, Or.inl rfl, Or.inr rfl, Or.inl rfl, Or.inl rfl, Or.inl rfl, trivial⟩ ?_
    exact fX11_dealByQuota_170_ok F hX hp h K
  · rw [if_neg hq3] at h
    refine v_aload_n F dX11_dealByQuota_21 rfl rfl ?_
    refine gf_X11_1072 F dX11_dealByQuota_22 hp (v := 1645) rfl ?_
    refine v_iload F dX11_dealByQuota_25 rfl ?_
    obtain ⟨hi33, h⟩ := ck_some h
    refine v_zald F dX11_dealByQuota_27 (ar_X11_142 hX hp) hi33 ?_
    refine v_if_ne F dX11_dealByQuota_28 rfl (fun hq34 => ?_) (fun hq34 => ?_)
    · rw [if_neg hq34] at h
      refine v_iload_n F dX11_dealByQuota_34 rfl rfl ?_
      refine v_bipush F dX11_dealByQuota_35 rfl ⟨by decide, by decide⟩ ?_
      refine v_icmp_ne F dX11_dealByQuota_37 rfl (fun hq35 => ?_) (fun hq35 => ?_)
      · rw [if_neg hq35] at h
        refine v_iload_n F dX11_dealByQuota_44 rfl rfl ?_
        refine v_iload_n F dX11_dealByQuota_45 rfl rfl ?_
        refine v_iconst F dX11_dealByQuota_46 ⟨by decide, by decide⟩ ?_
        refine v_icmp_ne F dX11_dealByQuota_47 rfl (fun hq36 => ?_) (fun hq36 => ?_)
        · rw [if_neg hq36] at h
          refine v_iload_n F dX11_dealByQuota_54 rfl rfl ?_
          refine v_bipush F dX11_dealByQuota_55 rfl ⟨by decide, by decide⟩ ?_
          refine v_icmp_ne F dX11_dealByQuota_57 rfl (fun hq37 => ?_) (fun hq37 => ?_)
          · rw [if_neg hq37] at h
            refine v_iconst F dX11_dealByQuota_64 ⟨by decide, by decide⟩ ?_
            exact fX11_dealByQuota_65_ok F hX hp h K
          · rw [if_pos hq37] at h
            refine v_iconst F dX11_dealByQuota_60 ⟨by decide, by decide⟩ ?_
            refine v_goto F dX11_dealByQuota_61 rfl ?_
            exact fX11_dealByQuota_65_ok F hX hp h K
        · rw [if_pos hq36] at h
          refine v_iconst F dX11_dealByQuota_50 ⟨by decide, by decide⟩ ?_
          refine v_goto F dX11_dealByQuota_51 rfl ?_
          exact fX11_dealByQuota_65_ok F hX hp h K
      · rw [if_pos hq35] at h
        refine v_iconst F dX11_dealByQuota_40 ⟨by decide, by decide⟩ ?_
        refine v_goto F dX11_dealByQuota_41 rfl ?_
        exact fX11_dealByQuota_66_ok F hX hp h K
    · rw [if_pos hq34] at h
      refine v_goto F dX11_dealByQuota_31 rfl ?_
      obtain ⟨x52, ex52, h⟩ := lv_some h
      refine v_iincN F dX11_dealByQuota_164 (Nat.le_of_ble_eq_true rfl) rfl ex52 (L' := [mA 1545, mI a1, mI a2, mI a3, mI v4, mI v5, mI x52, mU, mU, mU]) rfl ?_
      refine v_goto F dX11_dealByQuota_167 rfl ?_
      cases h
      exact K
theorem fX11_dealByQuota_12_ok {w : Wd} {l : Launch} {G : Cx} {d m dd : Dt} {a1 a2 a3 v4 v5 v6 : Int} {d' : Dt} {x : Dt} (F : Fx w G cX11_dealByQuota RX11 10 none { frames := 1, cells := 0, slots := 0, locals := 24 }) (hX : WF dd m) (hp : PB m 1545 11) (h : fX11_dealByQuota_12 d a1 a2 a3 v4 v5 v6 = some x) (K : (fun q => q = d') x) : V w l WF G (QM w G WF none d' m 0 0) d m 0 0 12 [mA 1545, mI a1, mI a2, mI a3, mI v4, mI v5, mI v6, mU, mU, mU] [] := by
  unfold fX11_dealByQuota_12 at h
  exact loop_ok (P := fX11_dealByQuota_12P w l G (QM w G WF none d' m 0 0) m a1 a2 a3 v4) (fun s x hx h1 h2 => fX11_dealByQuota_12f_ok F hX hp hx (by
    cases x with
    | inl s' => exact h1 s' rfl
    | inr z => cases h2 z rfl; exact K)) h
theorem vm_X11_dealByQuota {w : Wd} {l : Launch} {d m : Dt} {a1 a2 a3 : Int} {d' : Dt} (hp : PB m 1545 11) (h : fX11_dealByQuota d a1 a2 a3 = some d') : VM w l WF yX11_dealByQuota cX11_dealByQuota 10 none 1 24 0 0 d m [mA 1545, mI a1, mI a2, mI a3] none d' m := by
  obtain ⟨x, h, K⟩ : ∃ x, fX11_dealByQuota d a1 a2 a3 = some x ∧ x = d' := ⟨_, h, rfl⟩
  refine VM.of (L := [mA 1545, mI a1, mI a2, mI a3, mU, mU, mU, mU, mU, mU]) (by decide +kernel) rfl (Nat.le_of_ble_eq_true rfl) fun G F _ => v_fact fun _ hX _ _ => ?_
  unfold fX11_dealByQuota at h
  refine v_aload_n F dX11_dealByQuota_0 rfl rfl ?_
  obtain ⟨x1, hc2, h⟩ := b1_some h
  refine v_callVv (c := 11) F dX11_dealByQuota_1 cv_X11_1088 rfl (PB.ob hp hX (Nat.le_of_ble_eq_true rfl)) (Nat.le_of_ble_eq_true rfl) rfl (vm_X11_votesOfAll hp hc2) rfl (rOk.of rfl) ?_
  refine v_istore F dX11_dealByQuota_4 (Nat.le_of_ble_eq_true rfl) (L' := [mA 1545, mI a1, mI a2, mI a3, mI x1, mU, mU, mU, mU, mU]) rfl ?_
  refine v_iconst F dX11_dealByQuota_6 ⟨by decide, by decide⟩ ?_
  refine v_istore F dX11_dealByQuota_7 (Nat.le_of_ble_eq_true rfl) (L' := [mA 1545, mI a1, mI a2, mI a3, mI x1, mI 0, mU, mU, mU, mU]) rfl ?_
  refine v_iconst F dX11_dealByQuota_9 ⟨by decide, by decide⟩ ?_
  refine v_istore F dX11_dealByQuota_10 (Nat.le_of_ble_eq_true rfl) (L' := [mA 1545, mI a1, mI a2, mI a3, mI x1, mI 0, mI 0, mU, mU, mU]) rfl ?_
  exact fX11_dealByQuota_12_ok F hX hp h K
theorem vm_X11_divisor {w : Wd} {l : Launch} {X : Dt → Dt → Prop} {d m : Dt} {a1 a2 : Int} : VM w l X yX11_divisor cX11_divisor 2 (some .int) 0 0 0 0 d m [mI a1, mI a2] (some (mI (fX11_divisor a1 a2))) d m := by
  obtain ⟨r, hr⟩ : ∃ r, fX11_divisor a1 a2 = r := ⟨_, rfl⟩
  rw [hr]
  obtain ⟨x, h, K⟩ : ∃ x, fX11_divisor a1 a2 = x ∧ x = r := ⟨_, hr, rfl⟩
  refine VM.of (L := [mI a1, mI a2]) (by decide +kernel) rfl (Nat.le_of_ble_eq_true rfl) fun G F _ => ?_
  unfold fX11_divisor at h
  refine v_iload_n F dX11_divisor_0 rfl rfl ?_
  by_cases hq1 : a1 = 0
  · rw [if_pos hq1] at h
    refine v_tableIn F dX11_divisor_1 hq1 (by decide) (by decide) rfl rfl ?_
    refine v_iload_n F dX11_divisor_32 rfl rfl ?_
    refine v_iconst F dX11_divisor_33 ⟨by decide, by decide⟩ ?_
    refine v_iadd F dX11_divisor_34 ?_
    subst h
    cases (show _ = r from K)
    exact v_iret F dX11_divisor_35
  · rw [if_neg hq1] at h
    by_cases hq2 : a1 = 1
    · rw [if_pos hq2] at h
      refine v_tableIn F dX11_divisor_1 hq2 (by decide) (by decide) rfl rfl ?_
      refine v_iconst F dX11_divisor_36 ⟨by decide, by decide⟩ ?_
      refine v_iload_n F dX11_divisor_37 rfl rfl ?_
      refine v_imul F dX11_divisor_38 ?_
      refine v_iconst F dX11_divisor_39 ⟨by decide, by decide⟩ ?_
      refine v_iadd F dX11_divisor_40 ?_
      subst h
      cases (show _ = r from K)
      exact v_iret F dX11_divisor_41
    · rw [if_neg hq2] at h
      by_cases hq3 : a1 = 2
      · rw [if_pos hq3] at h
        refine v_tableIn F dX11_divisor_1 hq3 (by decide) (by decide) rfl rfl ?_
        refine v_iconst F dX11_divisor_42 ⟨by decide, by decide⟩ ?_
        refine v_iload_n F dX11_divisor_43 rfl rfl ?_
        refine v_imul F dX11_divisor_44 ?_
        refine v_iconst F dX11_divisor_45 ⟨by decide, by decide⟩ ?_
        refine v_iadd F dX11_divisor_46 ?_
        subst h
        cases (show _ = r from K)
        exact v_iret F dX11_divisor_47
      · rw [if_neg hq3] at h
        by_cases hq4 : a1 = 3
        · rw [if_pos hq4] at h
          refine v_tableIn F dX11_divisor_1 hq4 (by decide) (by decide) rfl rfl ?_
          refine v_iload_n F dX11_divisor_48 rfl rfl ?_
          refine v_iconst F dX11_divisor_49 ⟨by decide, by decide⟩ ?_
          refine v_iadd F dX11_divisor_50 ?_
          subst h
          cases (show _ = r from K)
          exact v_iret F dX11_divisor_51
        · rw [if_neg hq4] at h
          refine v_tableOut F dX11_divisor_1 (by omega) rfl ?_
          refine v_iload_n F dX11_divisor_52 rfl rfl ?_
          refine v_if_ne F dX11_divisor_53 rfl (fun hq5 => ?_) (fun hq5 => ?_)
          · rw [if_neg hq5] at h
            refine v_bipush F dX11_divisor_61 rfl ⟨by decide, by decide⟩ ?_
            refine v_iconst F dX11_divisor_63 ⟨by decide, by decide⟩ ?_
            refine v_iload_n F dX11_divisor_64 rfl rfl ?_
            refine v_imul F dX11_divisor_65 ?_
            refine v_iconst F dX11_divisor_66 ⟨by decide, by decide⟩ ?_
            refine v_iadd F dX11_divisor_67 ?_
            refine v_imul F dX11_divisor_68 ?_
            subst h
            cases (show _ = r from K)
            exact v_iret F dX11_divisor_69
          · rw [if_pos hq5] at h
            refine v_bipush F dX11_divisor_56 rfl ⟨by decide, by decide⟩ ?_
            refine v_goto F dX11_divisor_58 rfl ?_
            subst h
            cases (show _ = r from K)
            exact v_iret F dX11_divisor_69
def fX11_deal_2P (w : Wd) (l : Launch) (G : Cx) (Q : State → Prop) (m : Dt) (a1 a2 : Int) (s : Dt × Int) : Prop := V w l WF G Q s.1 m 0 0 2 [mA 1545, mI a1, mI a2, mI (s.2), mU, mU, mU] []
def fX11_deal_47P (w : Wd) (l : Launch) (G : Cx) (Q : State → Prop) (m : Dt) (a1 a2 v3 : Int) (s : Dt × Int) : Prop := V w l WF G Q s.1 m 0 0 47 [mA 1545, mI a1, mI a2, mI v3, mI (s.2), mU, mU] []
def fX11_deal_59P (w : Wd) (l : Launch) (G : Cx) (Q : State → Prop) (m : Dt) (d : Dt) (a1 a2 v3 v4 : Int) (s : Int × Int) : Prop := V w l WF G Q d m 0 0 59 [mA 1545, mI a1, mI a2, mI v3, mI v4, mI (s.1), mI (s.2)] []
theorem fX11_deal_59f_ok {w : Wd} {l : Launch} {G : Cx} {d m dd : Dt} {a1 a2 v3 v4 : Int} {d' : Dt} {s : Int × Int} {x : ((Int × Int) ⊕ ((Dt × Int) ⊕ Dt))} (F : Fx w G cX11_deal RX11 7 none { frames := 2, cells := 0, slots := 0, locals := 53 }) (hX : WF dd m) (hp : PB m 1545 11) (h : fX11_deal_59f d a1 a2 v3 v4 s = some x) (K : (Sum.elim (fX11_deal_59P w l G (QM w G WF none d' m 0 0) m d a1 a2 v3 v4) (Sum.elim (fX11_deal_47P w l G (QM w G WF none d' m 0 0) m a1 a2 v3) (fun q => q = d'))) x) : V w l WF G (QM w G WF none d' m 0 0) d m 0 0 59 [mA 1545, mI a1, mI a2, mI v3, mI v4, mI (s.1), mI (s.2)] [] := by
  obtain ⟨v5, v6⟩ := s
  unfold fX11_deal_59f at h
  dsimp only at h
  refine v_iload F dX11_deal_59 rfl ?_
  refine v_aload_n F dX11_deal_61 rfl rfl ?_
  refine gf_X11_1054 F dX11_deal_62 hp ?_
  refine v_icmp_ge F dX11_deal_65 rfl (fun hq6 => ?_) (fun hq6 => ?_)
  · rw [if_pos hq6] at h
    obtain ⟨z, hu, ez⟩ := up_some h
    clear h
    subst ez
    have h := hu
    clear hu
    refine v_iload F dX11_deal_137 rfl ?_
    refine v_if_ge F dX11_deal_139 rfl (fun hq7 => ?_) (fun hq7 => ?_)
    · rw [if_pos hq7] at h
      refine v_aload_n F dX11_deal_143 rfl rfl ?_
      refine gf_X11_1075 F dX11_deal_144 hp (v := 1646) rfl ?_
      refine v_iload F dX11_deal_147 rfl ?_
      refine v_dup2_IA F dX11_deal_149 ?_
      obtain ⟨hi8, h⟩ := ck_some h
      refine v_iald F dX11_deal_150 (ar_X11_143 hX hp) hi8 ?_
      refine v_iconst F dX11_deal_151 ⟨by decide, by decide⟩ ?_
      refine v_iadd F dX11_deal_152 ?_
      obtain ⟨d9, ed9, h⟩ := sd_some h
      refine v_iast F dX11_deal_153 (ar_X11_143 hX hp) hi8 ?_
      refine v_nD ed9 ?_
      obtain ⟨x10, ex10, h⟩ := lv_some h
      refine v_iincN F dX11_deal_154 (Nat.le_of_ble_eq_true rfl) rfl ex10 (L' := [mA 1545, mI a1, mI a2, mI v3, mI x10, mI v5, mI v6]) rfl ?_
      refine v_goto F dX11_deal_157 rfl ?_
      cases h
      refine v_fgt (L' := [mA 1545, mI a1, mI a2, mI v3, mI x10, mU, mU]) ⟨Or.inl rfl, Or.inl rfl, Or.inl rfl, Or.inl rfl, Or.inl rfl, Or.inr rfl, Or.inr rfl, trivial⟩ ?_
      exact K
    · rw [if_neg hq7] at h
      obtain ⟨z, hu, ez⟩ := up_some h
      clear h
      subst ez
      have h := hu
      clear hu
      cases h
      cases (show _ = d' from K)
      exact v_vret F dX11_deal_142
  · rw [if_neg hq6] at h
    refine v_aload_n F dX11_deal_68 rfl rfl ?_
    refine v_iload F dX11_deal_69 rfl ?_
    refine v_iload_n F dX11_deal_71 rfl rfl ?_
    obtain ⟨x11, hc12, h⟩ := b1_some h
    refine v_callVv (c := 11) F dX11_deal_72 cv_X11_1082 rfl (PB.ob hp hX (Nat.le_of_ble_eq_true rfl)) (Nat.le_of_ble_eq_true rfl) rfl (vm_X11_hasPlace hp hc12) rfl (rOk.of rfl) ?_
    refine v_if_ne F dX11_deal_75 rfl (fun hq13 => ?_) (fun hq13 => ?_)
    · rw [if_neg hq13] at h
      refine v_iload F dX11_deal_81 rfl ?_
      refine v_if_lt F dX11_deal_83 rfl (fun hq14 => ?_) (fun hq14 => ?_)
      · rw [if_pos hq14] at h
        refine v_iload F dX11_deal_127 rfl ?_
        refine v_istore F dX11_deal_129 (Nat.le_of_ble_eq_true rfl) (L' := [mA 1545, mI a1, mI a2, mI v3, mI v4, mI v6, mI v6]) rfl ?_
        obtain ⟨x15, ex15, h⟩ := lv_some h
        refine v_iincN F dX11_deal_131 (Nat.le_of_ble_eq_true rfl) rfl ex15 (L' := [mA 1545, mI a1, mI a2, mI v3, mI v4, mI v6, mI x15]) rfl ?_
        refine v_goto F dX11_deal_134 rfl ?_
        cases h
        exact K
      · rw [if_neg hq14] at h
        refine v_aload_n F dX11_deal_86 rfl rfl ?_
        refine gf_X11_1063 F dX11_deal_87 hp (v := 1643) rfl ?_
        refine v_iload F dX11_deal_90 rfl ?_
        obtain ⟨hi16, h⟩ := ck_some h
        refine v_iald F dX11_deal_92 (ar_X11_140 hX hp) hi16 ?_
        refine v_iload_n F dX11_deal_93 rfl rfl ?_
        refine v_aload_n F dX11_deal_94 rfl rfl ?_
        refine gf_X11_1075 F dX11_deal_95 hp (v := 1646) rfl ?_
        refine v_iload F dX11_deal_98 rfl ?_
        obtain ⟨hi17, h⟩ := ck_some h
        refine v_iald F dX11_deal_100 (ar_X11_143 hX hp) hi17 ?_
        refine v_callSv F dX11_deal_101 cs_X11_1085 rfl (vm_X11_divisor) rfl (rOk.of rfl) ?_
        refine v_imul F dX11_deal_104 ?_
        refine v_aload_n F dX11_deal_105 rfl rfl ?_
        refine gf_X11_1063 F dX11_deal_106 hp (v := 1643) rfl ?_
        refine v_iload F dX11_deal_109 rfl ?_
        refine v_iald F dX11_deal_111 (ar_X11_140 hX hp) hi17 ?_
        refine v_iload_n F dX11_deal_112 rfl rfl ?_
        refine v_aload_n F dX11_deal_113 rfl rfl ?_
        refine gf_X11_1075 F dX11_deal_114 hp (v := 1646) rfl ?_
        refine v_iload F dX11_deal_117 rfl ?_
        refine v_iald F dX11_deal_119 (ar_X11_143 hX hp) hi16 ?_
        refine v_callSv F dX11_deal_120 cs_X11_1085 rfl (vm_X11_divisor) rfl (rOk.of rfl) ?_
        refine v_imul F dX11_deal_123 ?_
        refine v_icmp_le F dX11_deal_124 rfl (fun hq18 => ?_) (fun hq18 => ?_)
        · rw [if_pos hq18] at h
          obtain ⟨x19, ex19, h⟩ := lv_some h
          refine v_iincN F dX11_deal_131 (Nat.le_of_ble_eq_true rfl) rfl ex19 (L' := [mA 1545, mI a1, mI a2, mI v3, mI v4, mI v5, mI x19]) rfl ?_
          refine v_goto F dX11_deal_134 rfl ?_
          cases h
          exact K
        · rw [if_neg hq18] at h
          refine v_iload F dX11_deal_127 rfl ?_
          refine v_istore F dX11_deal_129 (Nat.le_of_ble_eq_true rfl) (L' := [mA 1545, mI a1, mI a2, mI v3, mI v4, mI v6, mI v6]) rfl ?_
          obtain ⟨x20, ex20, h⟩ := lv_some h
          refine v_iincN F dX11_deal_131 (Nat.le_of_ble_eq_true rfl) rfl ex20 (L' := [mA 1545, mI a1, mI a2, mI v3, mI v4, mI v6, mI x20]) rfl ?_
          refine v_goto F dX11_deal_134 rfl ?_
          cases h
          exact K
    · rw [if_pos hq13] at h
      refine v_goto F dX11_deal_78 rfl ?_
      obtain ⟨x21, ex21, h⟩ := lv_some h
      refine v_iincN F dX11_deal_131 (Nat.le_of_ble_eq_true rfl) rfl ex21 (L' := [mA 1545, mI a1, mI a2, mI v3, mI v4, mI v5, mI x21]) rfl ?_
      refine v_goto F dX11_deal_134 rfl ?_
      cases h
      exact K
theorem fX11_deal_59_ok {w : Wd} {l : Launch} {G : Cx} {d m dd : Dt} {a1 a2 v3 v4 v5 v6 : Int} {d' : Dt} {x : ((Dt × Int) ⊕ Dt)} (F : Fx w G cX11_deal RX11 7 none { frames := 2, cells := 0, slots := 0, locals := 53 }) (hX : WF dd m) (hp : PB m 1545 11) (h : fX11_deal_59 d a1 a2 v3 v4 v5 v6 = some x) (K : (Sum.elim (fX11_deal_47P w l G (QM w G WF none d' m 0 0) m a1 a2 v3) (fun q => q = d')) x) : V w l WF G (QM w G WF none d' m 0 0) d m 0 0 59 [mA 1545, mI a1, mI a2, mI v3, mI v4, mI v5, mI v6] [] := by
  unfold fX11_deal_59 at h
  exact loop_ok (P := fX11_deal_59P w l G (QM w G WF none d' m 0 0) m d a1 a2 v3 v4) (fun s x hx h1 h2 => fX11_deal_59f_ok F hX hp hx (by
    cases x with
    | inl s' => exact h1 s' rfl
    | inr z => cases h2 z rfl; exact K)) h
theorem fX11_deal_47f_ok {w : Wd} {l : Launch} {G : Cx} {m dd : Dt} {a1 a2 v3 : Int} {d' : Dt} {s : Dt × Int} {x : ((Dt × Int) ⊕ Dt)} (F : Fx w G cX11_deal RX11 7 none { frames := 2, cells := 0, slots := 0, locals := 53 }) (hX : WF dd m) (hp : PB m 1545 11) (h : fX11_deal_47f a1 a2 v3 s = some x) (K : (Sum.elim (fX11_deal_47P w l G (QM w G WF none d' m 0 0) m a1 a2 v3) (fun q => q = d')) x) : V w l WF G (QM w G WF none d' m 0 0) s.1 m 0 0 47 [mA 1545, mI a1, mI a2, mI v3, mI (s.2), mU, mU] [] := by
  obtain ⟨d, v4⟩ := s
  unfold fX11_deal_47f at h
  dsimp only at h
  refine v_iload F dX11_deal_47 rfl ?_
  refine v_iload_n F dX11_deal_49 rfl rfl ?_
  refine v_icmp_ge F dX11_deal_50 rfl (fun hq5 => ?_) (fun hq5 => ?_)
  · rw [if_pos hq5] at h
    obtain ⟨z, hu, ez⟩ := up_some h
    clear h
    subst ez
    have h := hu
    clear hu
    cases h
    cases (show _ = d' from K)
    exact v_vret F dX11_deal_160
  · rw [if_neg hq5] at h
    refine v_iconst F dX11_deal_53 ⟨by decide, by decide⟩ ?_
    refine v_istore F dX11_deal_54 (Nat.le_of_ble_eq_true rfl) (L' := [mA 1545, mI a1, mI a2, mI v3, mI v4, mI (-1), mU]) rfl ?_
    refine v_iconst F dX11_deal_56 ⟨by decide, by decide⟩ ?_
    refine v_istore F dX11_deal_57 (Nat.le_of_ble_eq_true rfl) (L' := [mA 1545, mI a1, mI a2, mI v3, mI v4, mI (-1), mI 0]) rfl ?_
    exact fX11_deal_59_ok F hX hp h K
theorem fX11_deal_47_ok {w : Wd} {l : Launch} {G : Cx} {d m dd : Dt} {a1 a2 v3 v4 : Int} {d' : Dt} {x : Dt} (F : Fx w G cX11_deal RX11 7 none { frames := 2, cells := 0, slots := 0, locals := 53 }) (hX : WF dd m) (hp : PB m 1545 11) (h : fX11_deal_47 d a1 a2 v3 v4 = some x) (K : (fun q => q = d') x) : V w l WF G (QM w G WF none d' m 0 0) d m 0 0 47 [mA 1545, mI a1, mI a2, mI v3, mI v4, mU, mU] [] := by
  unfold fX11_deal_47 at h
  exact loop_ok (P := fX11_deal_47P w l G (QM w G WF none d' m 0 0) m a1 a2 v3) (fun s x hx h1 h2 => fX11_deal_47f_ok F hX hp hx (by
    cases x with
    | inl s' => exact h1 s' rfl
    | inr z => cases h2 z rfl; exact K)) h
theorem fX11_deal_2f_ok {w : Wd} {l : Launch} {G : Cx} {m dd : Dt} {a1 a2 : Int} {d' : Dt} {s : Dt × Int} {x : ((Dt × Int) ⊕ Dt)} (F : Fx w G cX11_deal RX11 7 none { frames := 2, cells := 0, slots := 0, locals := 53 }) (hX : WF dd m) (hp : PB m 1545 11) (h : fX11_deal_2f a1 a2 s = some x) (K : (Sum.elim (fX11_deal_2P w l G (QM w G WF none d' m 0 0) m a1 a2) (fun q => q = d')) x) : V w l WF G (QM w G WF none d' m 0 0) s.1 m 0 0 2 [mA 1545, mI a1, mI a2, mI (s.2), mU, mU, mU] [] := by
  obtain ⟨d, v3⟩ := s
  unfold fX11_deal_2f at h
  dsimp only at h
  refine v_iload_n F dX11_deal_2 rfl rfl ?_
  refine v_bipush F dX11_deal_3 rfl ⟨by decide, by decide⟩ ?_
  refine v_icmp_ge F dX11_deal_5 rfl (fun hq1 => ?_) (fun hq1 => ?_)
  · rw [if_pos hq1] at h
    obtain ⟨z, hu, ez⟩ := up_some h
    clear h
    subst ez
    have h := hu
    clear hu
    refine v_aload_n F dX11_deal_21 rfl rfl ?_
    refine v_aload_n F dX11_deal_22 rfl rfl ?_
    refine gf_X11_749 F dX11_deal_23 hp ?_
    refine v_iconst F dX11_deal_26 ⟨by decide, by decide⟩ ?_
    obtain ⟨x2, hc3, h⟩ := b1_some h
    refine v_callVv (c := 11) F dX11_deal_27 cv_X11_485 rfl (PB.ob hp hX (Nat.le_of_ble_eq_true rfl)) (Nat.le_of_ble_eq_true rfl) rfl (vm_X11_contestIs hp hc3) rfl (rOk.of rfl) ?_
    refine v_istore_n F dX11_deal_30 rfl (Nat.le_of_ble_eq_true rfl) (L' := [mA 1545, mI a1, mI a2, mI x2, mU, mU, mU]) rfl ?_
    refine v_iload_n F dX11_deal_31 rfl rfl ?_
    refine v_iconst F dX11_deal_32 ⟨by decide, by decide⟩ ?_
    refine v_icmp_lt F dX11_deal_33 rfl (fun hq4 => ?_) (fun hq4 => ?_)
    · rw [if_pos hq4] at h
      refine v_iconst F dX11_deal_44 ⟨by decide, by decide⟩ ?_
      refine v_istore F dX11_deal_45 (Nat.le_of_ble_eq_true rfl) (L' := [mA 1545, mI a1, mI a2, mI x2, mI 0, mU, mU]) rfl ?_
      exact fX11_deal_47_ok F hX hp h K
    · rw [if_neg hq4] at h
      refine v_aload_n F dX11_deal_36 rfl rfl ?_
      refine v_iload_n F dX11_deal_37 rfl rfl ?_
      refine v_iload_n F dX11_deal_38 rfl rfl ?_
      refine v_iload_n F dX11_deal_39 rfl rfl ?_
      obtain ⟨d22, hc23, h⟩ := bd_some h
      refine v_callV0 (c := 11) F dX11_deal_40 cv_X11_1078 rfl (PB.ob hp hX (Nat.le_of_ble_eq_true rfl)) (Nat.le_of_ble_eq_true rfl) rfl (vm_X11_dealByQuota hp hc23) rfl (rOk.of rfl) ?_
      cases h
      cases (show _ = d' from K)
      exact v_vret F dX11_deal_43
  · rw [if_neg hq1] at h
    refine v_aload_n F dX11_deal_8 rfl rfl ?_
    refine gf_X11_1075 F dX11_deal_9 hp (v := 1646) rfl ?_
    refine v_iload_n F dX11_deal_12 rfl rfl ?_
    refine v_iconst F dX11_deal_13 ⟨by decide, by decide⟩ ?_
    obtain ⟨hi24, h⟩ := ck_some h
    obtain ⟨d25, ed25, h⟩ := sd_some h
    refine v_iast F dX11_deal_14 (ar_X11_143 hX hp) hi24 ?_
    refine v_nD ed25 ?_
    obtain ⟨x26, ex26, h⟩ := lv_some h
    refine v_iincN F dX11_deal_15 (Nat.le_of_ble_eq_true rfl) rfl ex26 (L' := [mA 1545, mI a1, mI a2, mI x26, mU, mU, mU]) rfl ?_
    refine v_goto F dX11_deal_18 rfl ?_
    cases h
    exact K
theorem fX11_deal_2_ok {w : Wd} {l : Launch} {G : Cx} {d m dd : Dt} {a1 a2 v3 : Int} {d' : Dt} {x : Dt} (F : Fx w G cX11_deal RX11 7 none { frames := 2, cells := 0, slots := 0, locals := 53 }) (hX : WF dd m) (hp : PB m 1545 11) (h : fX11_deal_2 d a1 a2 v3 = some x) (K : (fun q => q = d') x) : V w l WF G (QM w G WF none d' m 0 0) d m 0 0 2 [mA 1545, mI a1, mI a2, mI v3, mU, mU, mU] [] := by
  unfold fX11_deal_2 at h
  exact loop_ok (P := fX11_deal_2P w l G (QM w G WF none d' m 0 0) m a1 a2) (fun s x hx h1 h2 => fX11_deal_2f_ok F hX hp hx (by
    cases x with
    | inl s' => exact h1 s' rfl
    | inr z => cases h2 z rfl; exact K)) h
theorem vm_X11_deal {w : Wd} {l : Launch} {d m : Dt} {a1 a2 : Int} {d' : Dt} (hp : PB m 1545 11) (h : fX11_deal d a1 a2 = some d') : VM w l WF yX11_deal cX11_deal 7 none 2 53 0 0 d m [mA 1545, mI a1, mI a2] none d' m := by
  obtain ⟨x, h, K⟩ : ∃ x, fX11_deal d a1 a2 = some x ∧ x = d' := ⟨_, h, rfl⟩
  refine VM.of (L := [mA 1545, mI a1, mI a2, mU, mU, mU, mU]) (by decide +kernel) rfl (Nat.le_of_ble_eq_true rfl) fun G F _ => v_fact fun _ hX _ _ => ?_
  unfold fX11_deal at h
  refine v_iconst F dX11_deal_0 ⟨by decide, by decide⟩ ?_
  refine v_istore_n F dX11_deal_1 rfl (Nat.le_of_ble_eq_true rfl) (L' := [mA 1545, mI a1, mI a2, mI 0, mU, mU, mU]) rfl ?_
  exact fX11_deal_2_ok F hX hp h K
def fX11_level_16P (w : Wd) (l : Launch) (G : Cx) (Q : State → Prop) (m : Dt) (d : Dt) (v1 : Int) (s : Int × Int) : Prop := V w l WF G Q d m 0 0 16 [mA 1545, mI v1, mI (s.1), mI (s.2), mU, mU] []
def fX11_level_54P (w : Wd) (l : Launch) (G : Cx) (Q : State → Prop) (m : Dt) (v1 v2 : Int) (s : Dt × Int) : Prop := V w l WF G Q s.1 m 0 0 54 [mA 1545, mI v1, mI v2, mI (s.2), mU, mU] []
def fX11_level_175P (w : Wd) (l : Launch) (G : Cx) (Q : State → Prop) (m : Dt) (s : Dt × Int) : Prop := V w l WF G Q s.1 m 0 0 175 [mA 1545, mU, mU, mU, mI (s.2), mU] []
theorem fX11_level_175f_ok {w : Wd} {l : Launch} {G : Cx} {m dd : Dt} {d' : Dt} {s : Dt × Int} {x : ((Dt × Int) ⊕ Dt)} (F : Fx w G cX11_level RX11 6 none { frames := 3, cells := 0, slots := 0, locals := 79 }) (hX : WF dd m) (hp : PB m 1545 11) (h : fX11_level_175f s = some x) (K : (Sum.elim (fX11_level_175P w l G (QM w G WF none d' m 0 0) m) (fun q => q = d')) x) : V w l WF G (QM w G WF none d' m 0 0) s.1 m 0 0 175 [mA 1545, mU, mU, mU, mI (s.2), mU] [] := by
  obtain ⟨d, v4⟩ := s
  unfold fX11_level_175f at h
  dsimp only at h
  refine v_iload F dX11_level_175 rfl ?_
  refine v_aload_n F dX11_level_177 rfl rfl ?_
  refine gf_X11_1054 F dX11_level_178 hp ?_
  refine v_icmp_ge F dX11_level_181 rfl (fun hq4 => ?_) (fun hq4 => ?_)
  · rw [if_pos hq4] at h
    obtain ⟨z, hu, ez⟩ := up_some h
    clear h
    subst ez
    have h := hu
    clear hu
    cases h
    cases (show _ = d' from K)
    exact v_vret F dX11_level_216
  · rw [if_neg hq4] at h
    refine v_aload_n F dX11_level_184 rfl rfl ?_
    refine gf_X11_1075 F dX11_level_185 hp (v := 1646) rfl ?_
    refine v_iload F dX11_level_188 rfl ?_
    refine v_iconst F dX11_level_190 ⟨by decide, by decide⟩ ?_
    refine v_aload_n F dX11_level_191 rfl rfl ?_
    refine gf_X11_1075 F dX11_level_192 hp (v := 1646) rfl ?_
    refine v_iload F dX11_level_195 rfl ?_
    obtain ⟨hi5, h⟩ := ck_some h
    refine v_iald F dX11_level_197 (ar_X11_143 hX hp) hi5 ?_
    refine v_aload_n F dX11_level_198 rfl rfl ?_
    refine gf_X11_1106 F dX11_level_199 hp (v := 1648) rfl ?_
    refine v_iload F dX11_level_202 rfl ?_
    refine v_iald F dX11_level_204 (ar_X11_145 hX hp) hi5 ?_
    refine v_isub F dX11_level_205 ?_
    refine v_callSv F dX11_level_206 cs_X11_1040 rfl (vm_J9_max) rfl (rOk.of rfl) ?_
    obtain ⟨d6, ed6, h⟩ := sd_some h
    refine v_iast F dX11_level_209 (ar_X11_143 hX hp) hi5 ?_
    refine v_nD ed6 ?_
    obtain ⟨x7, ex7, h⟩ := lv_some h
    refine v_iincN F dX11_level_210 (Nat.le_of_ble_eq_true rfl) rfl ex7 (L' := [mA 1545, mU, mU, mU, mI x7, mU]) rfl ?_
    refine v_goto F dX11_level_213 rfl ?_
    cases h
    exact K
theorem fX11_level_175_ok {w : Wd} {l : Launch} {G : Cx} {d m dd : Dt} {v4 : Int} {d' : Dt} {x : Dt} (F : Fx w G cX11_level RX11 6 none { frames := 3, cells := 0, slots := 0, locals := 79 }) (hX : WF dd m) (hp : PB m 1545 11) (h : fX11_level_175 d v4 = some x) (K : (fun q => q = d') x) : V w l WF G (QM w G WF none d' m 0 0) d m 0 0 175 [mA 1545, mU, mU, mU, mI v4, mU] [] := by
  unfold fX11_level_175 at h
  exact loop_ok (P := fX11_level_175P w l G (QM w G WF none d' m 0 0) m) (fun s x hx h1 h2 => fX11_level_175f_ok F hX hp hx (by
    cases x with
    | inl s' => exact h1 s' rfl
    | inr z => cases h2 z rfl; exact K)) h
def fX11_level_80P (w : Wd) (l : Launch) (G : Cx) (Q : State → Prop) (m : Dt) (d : Dt) (v1 v2 : Int) (s : Int × Int) : Prop := V w l WF G Q d m 0 0 80 [mA 1545, mI v1, mI v2, mU, mI (s.1), mI (s.2)] []
theorem fX11_level_165_ok {w : Wd} {l : Launch} {G : Cx} {d m dd : Dt} {v1 v2 v3 s1 s2 : Int} {d' : Dt} {x : ((Dt × Int) ⊕ Dt)} (F : Fx w G cX11_level RX11 6 none { frames := 3, cells := 0, slots := 0, locals := 79 }) (hX : WF dd m) (hp : PB m 1545 11) (h : fX11_level_165 d v1 v2 v3 s1 s2 = some x) (K : (Sum.elim (fX11_level_54P w l G (QM w G WF none d' m 0 0) m v1 v2) (fun q => q = d')) x) : V w l WF G (QM w G WF none d' m 0 0) d m 0 0 165 [mA 1545, mI v1, mI v2, mI v3, mU, mU] [mI s2, mI s1, mA 1545] := by
  unfold fX11_level_165 at h
  refine v_iadd F dX11_level_165 ?_
  obtain ⟨d13, ed13, h⟩ := sd_some h
  refine pf_X11_838 F dX11_level_166 hp ?_
  refine v_nD ed13 ?_
  refine v_goto F dX11_level_169 rfl ?_
  cases h
  exact K
theorem fX11_level_150_ok {w : Wd} {l : Launch} {G : Cx} {d m dd : Dt} {v1 v2 s0 : Int} {d' : Dt} {x : ((Dt × Int) ⊕ Dt)} (F : Fx w G cX11_level RX11 6 none { frames := 3, cells := 0, slots := 0, locals := 79 }) (hX : WF dd m) (hp : PB m 1545 11) (h : fX11_level_150 d v1 v2 s0 = some x) (K : (Sum.elim (fX11_level_54P w l G (QM w G WF none d' m 0 0) m v1 v2) (fun q => q = d')) x) : V w l WF G (QM w G WF none d' m 0 0) d m 0 0 150 [mA 1545, mI v1, mI v2, mU, mU, mU] [mI s0] := by
  unfold fX11_level_150 at h
  refine v_istore_n F dX11_level_150 rfl (Nat.le_of_ble_eq_true rfl) (L' := [mA 1545, mI v1, mI v2, mI s0, mU, mU]) rfl ?_
  refine v_aload_n F dX11_level_151 rfl rfl ?_
  refine v_dup_A F dX11_level_152 ?_
  refine gf_X11_838 F dX11_level_153 hp ?_
  refine v_iload_n F dX11_level_156 rfl rfl ?_
  refine v_if_eq F dX11_level_157 rfl (fun hq12 => ?_) (fun hq12 => ?_)
  · rw [if_pos hq12] at h
    refine v_iconst F dX11_level_164 ⟨by decide, by decide⟩ ?_
    exact fX11_level_165_ok F hX hp h K
  · rw [if_neg hq12] at h
    refine v_iconst F dX11_level_160 ⟨by decide, by decide⟩ ?_
    refine v_goto F dX11_level_161 rfl ?_
    exact fX11_level_165_ok F hX hp h K
theorem fX11_level_123_ok {w : Wd} {l : Launch} {G : Cx} {d m dd : Dt} {v1 v2 v5 s0 s1 : Int} {d' : Dt} {x : ((Int × Int) ⊕ ((Dt × Int) ⊕ Dt))} (F : Fx w G cX11_level RX11 6 none { frames := 3, cells := 0, slots := 0, locals := 79 }) (hX : WF dd m) (hp : PB m 1545 11) (h : fX11_level_123 d v1 v2 v5 s0 s1 = some x) (K : (Sum.elim (fX11_level_80P w l G (QM w G WF none d' m 0 0) m d v1 v2) (Sum.elim (fX11_level_54P w l G (QM w G WF none d' m 0 0) m v1 v2) (fun q => q = d'))) x) : V w l WF G (QM w G WF none d' m 0 0) d m 0 0 123 [mA 1545, mI v1, mI v2, mU, mU, mI v5] [mI s1, mI s0] := by
  unfold fX11_level_123 at h
  refine v_ior F dX11_level_123 ?_
  obtain ⟨x17, ex17, h⟩ := lv_some h
  refine v_nI ex17 ?_
  refine v_istore F dX11_level_124 (Nat.le_of_ble_eq_true rfl) (L' := [mA 1545, mI v1, mI v2, mU, mI x17, mI v5]) rfl ?_
  obtain ⟨x18, ex18, h⟩ := lv_some h
  refine v_iincN F dX11_level_126 (Nat.le_of_ble_eq_true rfl) rfl ex18 (L' := [mA 1545, mI v1, mI v2, mU, mI x17, mI x18]) rfl ?_
  refine v_goto F dX11_level_129 rfl ?_
  cases h
  exact K
theorem fX11_level_80f_ok {w : Wd} {l : Launch} {G : Cx} {d m dd : Dt} {v1 v2 : Int} {d' : Dt} {s : Int × Int} {x : ((Int × Int) ⊕ ((Dt × Int) ⊕ Dt))} (F : Fx w G cX11_level RX11 6 none { frames := 3, cells := 0, slots := 0, locals := 79 }) (hX : WF dd m) (hp : PB m 1545 11) (h : fX11_level_80f d v1 v2 s = some x) (K : (Sum.elim (fX11_level_80P w l G (QM w G WF none d' m 0 0) m d v1 v2) (Sum.elim (fX11_level_54P w l G (QM w G WF none d' m 0 0) m v1 v2) (fun q => q = d'))) x) : V w l WF G (QM w G WF none d' m 0 0) d m 0 0 80 [mA 1545, mI v1, mI v2, mU, mI (s.1), mI (s.2)] [] := by
  obtain ⟨v4, v5⟩ := s
  unfold fX11_level_80f at h
  dsimp only at h
  refine v_iload F dX11_level_80 rfl ?_
  refine v_aload_n F dX11_level_82 rfl rfl ?_
  refine gf_X11_1054 F dX11_level_83 hp ?_
  refine v_icmp_ge F dX11_level_86 rfl (fun hq10 => ?_) (fun hq10 => ?_)
  · rw [if_pos hq10] at h
    obtain ⟨z, hu, ez⟩ := up_some h
    clear h
    subst ez
    have h := hu
    clear hu
    refine v_iload F dX11_level_132 rfl ?_
    refine v_if_eq F dX11_level_134 rfl (fun hq11 => ?_) (fun hq11 => ?_)
    · rw [if_pos hq11] at h
      refine v_iconst F dX11_level_149 ⟨by decide, by decide⟩ ?_
      refine v_fgt (L' := [mA 1545, mI v1, mI v2, mU, mU, mU]) ⟨Or.inl rfl, Or.inl rfl, Or.inl rfl, Or.inl rfl, Or.inr rfl, Or.inr rfl, trivial⟩ ?_
      exact fX11_level_150_ok F hX hp h K
    · rw [if_neg hq11] at h
      refine v_aload_n F dX11_level_137 rfl rfl ?_
      refine gf_X11_838 F dX11_level_138 hp ?_
      refine v_iload_n F dX11_level_141 rfl rfl ?_
      refine v_icmp_ge F dX11_level_142 rfl (fun hq14 => ?_) (fun hq14 => ?_)
      · rw [if_pos hq14] at h
        refine v_iconst F dX11_level_149 ⟨by decide, by decide⟩ ?_
        refine v_fgt (L' := [mA 1545, mI v1, mI v2, mU, mU, mU]) ⟨Or.inl rfl, Or.inl rfl, Or.inl rfl, Or.inl rfl, Or.inr rfl, Or.inr rfl, trivial⟩ ?_
        exact fX11_level_150_ok F hX hp h K
      · rw [if_neg hq14] at h
        refine v_iconst F dX11_level_145 ⟨by decide, by decide⟩ ?_
        refine v_goto F dX11_level_146 rfl ?_
        refine v_fgt (L' := [mA 1545, mI v1, mI v2, mU, mU, mU]) ⟨Or.inl rfl, Or.inl rfl, Or.inl rfl, Or.inl rfl, Or.inr rfl, Or.inr rfl, trivial⟩ ?_
        exact fX11_level_150_ok F hX hp h K
  · rw [if_neg hq10] at h
    refine v_iload F dX11_level_89 rfl ?_
    refine v_aload_n F dX11_level_91 rfl rfl ?_
    refine gf_X11_1072 F dX11_level_92 hp (v := 1645) rfl ?_
    refine v_iload F dX11_level_95 rfl ?_
    obtain ⟨hi15, h⟩ := ck_some h
    refine v_zald F dX11_level_97 (ar_X11_142 hX hp) hi15 ?_
    refine v_if_eq F dX11_level_98 rfl (fun hq16 => ?_) (fun hq16 => ?_)
    · rw [if_pos hq16] at h
      refine v_iconst F dX11_level_122 ⟨by decide, by decide⟩ ?_
      refine v_fgt (L' := [mA 1545, mI v1, mI v2, mU, mU, mI v5]) ⟨Or.inl rfl, Or.inl rfl, Or.inl rfl, Or.inl rfl, Or.inr rfl, Or.inl rfl, trivial⟩ ?_
      exact fX11_level_123_ok F hX hp h K
    · rw [if_neg hq16] at h
      refine v_aload_n F dX11_level_101 rfl rfl ?_
      refine gf_X11_1106 F dX11_level_102 hp (v := 1648) rfl ?_
      refine v_iload F dX11_level_105 rfl ?_
      refine v_iald F dX11_level_107 (ar_X11_145 hX hp) hi15 ?_
      refine v_aload_n F dX11_level_108 rfl rfl ?_
      refine gf_X11_1075 F dX11_level_109 hp (v := 1646) rfl ?_
      refine v_iload F dX11_level_112 rfl ?_
      refine v_iald F dX11_level_114 (ar_X11_143 hX hp) hi15 ?_
      refine v_icmp_le F dX11_level_115 rfl (fun hq19 => ?_) (fun hq19 => ?_)
      · rw [if_pos hq19] at h
        refine v_iconst F dX11_level_122 ⟨by decide, by decide⟩ ?_
        refine v_fgt (L' := [mA 1545, mI v1, mI v2, mU, mU, mI v5]) ⟨Or.inl rfl, Or.inl rfl, Or.inl rfl, Or.inl rfl, Or.inr rfl, Or.inl rfl, trivial⟩ ?_
        exact fX11_level_123_ok F hX hp h K
      · rw [if_neg hq19] at h
        refine v_iconst F dX11_level_118 ⟨by decide, by decide⟩ ?_
        refine v_goto F dX11_level_119 rfl ?_
        refine v_fgt (L' := [mA 1545, mI v1, mI v2, mU, mU, mI v5]) ⟨Or.inl rfl, Or.inl rfl, Or.inl rfl, Or.inl rfl, Or.inr rfl, Or.inl rfl, trivial⟩ ?_
        exact fX11_level_123_ok F hX hp h K
theorem fX11_level_80_ok {w : Wd} {l : Launch} {G : Cx} {d m dd : Dt} {v1 v2 v4 v5 : Int} {d' : Dt} {x : ((Dt × Int) ⊕ Dt)} (F : Fx w G cX11_level RX11 6 none { frames := 3, cells := 0, slots := 0, locals := 79 }) (hX : WF dd m) (hp : PB m 1545 11) (h : fX11_level_80 d v1 v2 v4 v5 = some x) (K : (Sum.elim (fX11_level_54P w l G (QM w G WF none d' m 0 0) m v1 v2) (fun q => q = d')) x) : V w l WF G (QM w G WF none d' m 0 0) d m 0 0 80 [mA 1545, mI v1, mI v2, mU, mI v4, mI v5] [] := by
  unfold fX11_level_80 at h
  exact loop_ok (P := fX11_level_80P w l G (QM w G WF none d' m 0 0) m d v1 v2) (fun s x hx h1 h2 => fX11_level_80f_ok F hX hp hx (by
    cases x with
    | inl s' => exact h1 s' rfl
    | inr z => cases h2 z rfl; exact K)) h
theorem fX11_level_54f_ok {w : Wd} {l : Launch} {G : Cx} {m dd : Dt} {v1 v2 : Int} {d' : Dt} {s : Dt × Int} {x : ((Dt × Int) ⊕ Dt)} (F : Fx w G cX11_level RX11 6 none { frames := 3, cells := 0, slots := 0, locals := 79 }) (hX : WF dd m) (hp : PB m 1545 11) (h : fX11_level_54f v1 v2 s = some x) (K : (Sum.elim (fX11_level_54P w l G (QM w G WF none d' m 0 0) m v1 v2) (fun q => q = d')) x) : V w l WF G (QM w G WF none d' m 0 0) s.1 m 0 0 54 [mA 1545, mI v1, mI v2, mI (s.2), mU, mU] [] := by
  obtain ⟨d, v3⟩ := s
  unfold fX11_level_54f at h
  dsimp only at h
  refine v_iload_n F dX11_level_54 rfl rfl ?_
  refine v_if_eq F dX11_level_55 rfl (fun hq3 => ?_) (fun hq3 => ?_)
  · rw [if_pos hq3] at h
    obtain ⟨z, hu, ez⟩ := up_some h
    clear h
    subst ez
    have h := hu
    clear hu
    refine v_iconst F dX11_level_172 ⟨by decide, by decide⟩ ?_
    refine v_istore F dX11_level_173 (Nat.le_of_ble_eq_true rfl) (L' := [mA 1545, mI v1, mI v2, mI v3, mI 0, mU]) rfl ?_
    refine v_fgt (L' := [mA 1545, mU, mU, mU, mI 0, mU]) ⟨Or.inl rfl, Or.inr rfl, Or.inr rfl, Or.inr rfl, Or.inl rfl, Or.inl rfl, trivial⟩ ?_
    exact fX11_level_175_ok F hX hp h K
  · rw [if_neg hq3] at h
    refine v_aload_n F dX11_level_58 rfl rfl ?_
    refine v_aload_n F dX11_level_59 rfl rfl ?_
    refine gf_X11_838 F dX11_level_60 hp ?_
    refine v_aload_n F dX11_level_63 rfl rfl ?_
    refine gf_X11_1042 F dX11_level_64 hp ?_
    refine v_isub F dX11_level_67 ?_
    refine v_iload_n F dX11_level_68 rfl rfl ?_
    refine v_iadd F dX11_level_69 ?_
    refine v_iconst F dX11_level_70 ⟨by decide, by decide⟩ ?_
    obtain ⟨d8, hc9, h⟩ := bd_some h
    refine v_callV0 (c := 11) F dX11_level_71 cv_X11_1112 rfl (PB.ob hp hX (Nat.le_of_ble_eq_true rfl)) (Nat.le_of_ble_eq_true rfl) rfl (vm_X11_deal hp hc9) rfl (rOk.of rfl) ?_
    refine v_iconst F dX11_level_74 ⟨by decide, by decide⟩ ?_
    refine v_istore F dX11_level_75 (Nat.le_of_ble_eq_true rfl) (L' := [mA 1545, mI v1, mI v2, mI v3, mI 0, mU]) rfl ?_
    refine v_iconst F dX11_level_77 ⟨by decide, by decide⟩ ?_
    refine v_istore F dX11_level_78 (Nat.le_of_ble_eq_true rfl) (L' := [mA 1545, mI v1, mI v2, mI v3, mI 0, mI 0]) rfl ?_
    refine v_fgt (L' := [mA 1545, mI v1, mI v2, mU, mI 0, mI 0]) ⟨Or.inl rfl, Or.inl rfl, Or.inl rfl, Or.inr rfl, Or.inl rfl, Or.inl rfl, trivial⟩ ?_
    exact fX11_level_80_ok F hX hp h K
theorem fX11_level_54_ok {w : Wd} {l : Launch} {G : Cx} {d m dd : Dt} {v1 v2 v3 : Int} {d' : Dt} {x : Dt} (F : Fx w G cX11_level RX11 6 none { frames := 3, cells := 0, slots := 0, locals := 79 }) (hX : WF dd m) (hp : PB m 1545 11) (h : fX11_level_54 d v1 v2 v3 = some x) (K : (fun q => q = d') x) : V w l WF G (QM w G WF none d' m 0 0) d m 0 0 54 [mA 1545, mI v1, mI v2, mI v3, mU, mU] [] := by
  unfold fX11_level_54 at h
  exact loop_ok (P := fX11_level_54P w l G (QM w G WF none d' m 0 0) m v1 v2) (fun s x hx h1 h2 => fX11_level_54f_ok F hX hp hx (by
    cases x with
    | inl s' => exact h1 s' rfl
    | inr z => cases h2 z rfl; exact K)) h
theorem fX11_level_44_ok {w : Wd} {l : Launch} {G : Cx} {d m dd : Dt} {v1 v3 s0 s1 : Int} {d' : Dt} {x : ((Int × Int) ⊕ Dt)} (F : Fx w G cX11_level RX11 6 none { frames := 3, cells := 0, slots := 0, locals := 79 }) (hX : WF dd m) (hp : PB m 1545 11) (h : fX11_level_44 d v1 v3 s0 s1 = some x) (K : (Sum.elim (fX11_level_16P w l G (QM w G WF none d' m 0 0) m d v1) (fun q => q = d')) x) : V w l WF G (QM w G WF none d' m 0 0) d m 0 0 44 [mA 1545, mI v1, mU, mI v3, mU, mU] [mI s1, mI s0] := by
  unfold fX11_level_44 at h
  refine v_iadd F dX11_level_44 ?_
  obtain ⟨x22, ex22, h⟩ := lv_some h
  refine v_nI ex22 ?_
  refine v_istore_n F dX11_level_45 rfl (Nat.le_of_ble_eq_true rfl) (L' := [mA 1545, mI v1, mI x22, mI v3, mU, mU]) rfl ?_
  obtain ⟨x23, ex23, h⟩ := lv_some h
  refine v_iincN F dX11_level_46 (Nat.le_of_ble_eq_true rfl) rfl ex23 (L' := [mA 1545, mI v1, mI x22, mI x23, mU, mU]) rfl ?_
  refine v_goto F dX11_level_49 rfl ?_
  cases h
  exact K
theorem fX11_level_16f_ok {w : Wd} {l : Launch} {G : Cx} {d m dd : Dt} {v1 : Int} {d' : Dt} {s : Int × Int} {x : ((Int × Int) ⊕ Dt)} (F : Fx w G cX11_level RX11 6 none { frames := 3, cells := 0, slots := 0, locals := 79 }) (hX : WF dd m) (hp : PB m 1545 11) (h : fX11_level_16f d v1 s = some x) (K : (Sum.elim (fX11_level_16P w l G (QM w G WF none d' m 0 0) m d v1) (fun q => q = d')) x) : V w l WF G (QM w G WF none d' m 0 0) d m 0 0 16 [mA 1545, mI v1, mI (s.1), mI (s.2), mU, mU] [] := by
  obtain ⟨v2, v3⟩ := s
  unfold fX11_level_16f at h
  dsimp only at h
  refine v_iload_n F dX11_level_16 rfl rfl ?_
  refine v_aload_n F dX11_level_17 rfl rfl ?_
  refine gf_X11_1054 F dX11_level_18 hp ?_
  refine v_icmp_ge F dX11_level_21 rfl (fun hq2 => ?_) (fun hq2 => ?_)
  · rw [if_pos hq2] at h
    obtain ⟨z, hu, ez⟩ := up_some h
    clear h
    subst ez
    have h := hu
    clear hu
    refine v_iconst F dX11_level_52 ⟨by decide, by decide⟩ ?_
    refine v_istore_n F dX11_level_53 rfl (Nat.le_of_ble_eq_true rfl) (L' := [mA 1545, mI v1, mI v2, mI 1, mU, mU]) rfl ?_
    exact fX11_level_54_ok F hX hp h K
  · rw [if_neg hq2] at h
    refine v_iload_n F dX11_level_24 rfl rfl ?_
    refine v_aload_n F dX11_level_25 rfl rfl ?_
    refine gf_X11_1072 F dX11_level_26 hp (v := 1645) rfl ?_
    refine v_iload_n F dX11_level_29 rfl rfl ?_
    obtain ⟨hi20, h⟩ := ck_some h
    refine v_zald F dX11_level_30 (ar_X11_142 hX hp) hi20 ?_
    refine v_if_eq F dX11_level_31 rfl (fun hq21 => ?_) (fun hq21 => ?_)
    · rw [if_pos hq21] at h
      refine v_iconst F dX11_level_43 ⟨by decide, by decide⟩ ?_
      refine v_fgt (L' := [mA 1545, mI v1, mU, mI v3, mU, mU]) ⟨Or.inl rfl, Or.inl rfl, Or.inr rfl, Or.inl rfl, Or.inl rfl, Or.inl rfl, trivial⟩ ?_
      exact fX11_level_44_ok F hX hp h K
    · rw [if_neg hq21] at h
      refine v_aload_n F dX11_level_34 rfl rfl ?_
      refine gf_X11_1106 F dX11_level_35 hp (v := 1648) rfl ?_
      refine v_iload_n F dX11_level_38 rfl rfl ?_
      refine v_iald F dX11_level_39 (ar_X11_145 hX hp) hi20 ?_
      refine v_goto F dX11_level_40 rfl ?_
      refine v_fgt (L' := [mA 1545, mI v1, mU, mI v3, mU, mU]) ⟨Or.inl rfl, Or.inl rfl, Or.inr rfl, Or.inl rfl, Or.inl rfl, Or.inl rfl, trivial⟩ ?_
      exact fX11_level_44_ok F hX hp h K
theorem fX11_level_16_ok {w : Wd} {l : Launch} {G : Cx} {d m dd : Dt} {v1 v2 v3 : Int} {d' : Dt} {x : Dt} (F : Fx w G cX11_level RX11 6 none { frames := 3, cells := 0, slots := 0, locals := 79 }) (hX : WF dd m) (hp : PB m 1545 11) (h : fX11_level_16 d v1 v2 v3 = some x) (K : (fun q => q = d') x) : V w l WF G (QM w G WF none d' m 0 0) d m 0 0 16 [mA 1545, mI v1, mI v2, mI v3, mU, mU] [] := by
  unfold fX11_level_16 at h
  exact loop_ok (P := fX11_level_16P w l G (QM w G WF none d' m 0 0) m d v1) (fun s x hx h1 h2 => fX11_level_16f_ok F hX hp hx (by
    cases x with
    | inl s' => exact h1 s' rfl
    | inr z => cases h2 z rfl; exact K)) h
theorem vm_X11_level {w : Wd} {l : Launch} {d m : Dt} {d' : Dt} (hp : PB m 1545 11) (h : fX11_level d = some d') : VM w l WF yX11_level cX11_level 6 none 3 79 0 0 d m [mA 1545] none d' m := by
  obtain ⟨x, h, K⟩ : ∃ x, fX11_level d = some x ∧ x = d' := ⟨_, h, rfl⟩
  refine VM.of (L := [mA 1545, mU, mU, mU, mU, mU]) (by decide +kernel) rfl (Nat.le_of_ble_eq_true rfl) fun G F _ => v_fact fun _ hX _ _ => ?_
  unfold fX11_level at h
  refine v_iconst F dX11_level_0 ⟨by decide, by decide⟩ ?_
  refine v_aload_n F dX11_level_1 rfl rfl ?_
  refine gf_X11_758 F dX11_level_2 hp ?_
  refine v_aload_n F dX11_level_5 rfl rfl ?_
  refine gf_X11_1042 F dX11_level_6 hp ?_
  refine v_iadd F dX11_level_9 ?_
  refine v_imul F dX11_level_10 ?_
  obtain ⟨x1, ex1, h⟩ := lv_some h
  refine v_nI ex1 ?_
  refine v_istore_n F dX11_level_11 rfl (Nat.le_of_ble_eq_true rfl) (L' := [mA 1545, mI x1, mU, mU, mU, mU]) rfl ?_
  refine v_iconst F dX11_level_12 ⟨by decide, by decide⟩ ?_
  refine v_istore_n F dX11_level_13 rfl (Nat.le_of_ble_eq_true rfl) (L' := [mA 1545, mI x1, mI 0, mU, mU, mU]) rfl ?_
  refine v_iconst F dX11_level_14 ⟨by decide, by decide⟩ ?_
  refine v_istore_n F dX11_level_15 rfl (Nat.le_of_ble_eq_true rfl) (L' := [mA 1545, mI x1, mI 0, mI 0, mU, mU]) rfl ?_
  exact fX11_level_16_ok F hX hp h K
theorem vm_X11_win {w : Wd} {l : Launch} {d m : Dt} {a1 : Int} {d' : Dt} (hp : PB m 1545 11) (h : fX11_win d a1 = some d') : VM w l WF yX11_win cX11_win 2 none 0 0 0 0 d m [mA 1545, mI a1] none d' m := by
  obtain ⟨x, h, K⟩ : ∃ x, fX11_win d a1 = some x ∧ x = d' := ⟨_, h, rfl⟩
  refine VM.of (L := [mA 1545, mI a1]) (by decide +kernel) rfl (Nat.le_of_ble_eq_true rfl) fun G F _ => v_fact fun _ hX _ _ => ?_
  unfold fX11_win at h
  refine v_aload_n F dX11_win_0 rfl rfl ?_
  refine gf_X11_826 F dX11_win_1 hp (v := 1626) rfl ?_
  refine v_aload_n F dX11_win_4 rfl rfl ?_
  refine gf_X11_829 F dX11_win_5 hp ?_
  refine v_iload_n F dX11_win_8 rfl rfl ?_
  obtain ⟨x1, ex1, h⟩ := lv_some h
  refine v_n2 ex1 ?_
  obtain ⟨hi2, h⟩ := ck_some h
  obtain ⟨d3, ed3, h⟩ := sd_some h
  refine v_iast F dX11_win_9 (ar_X11_121 hX hp) hi2 ?_
  refine v_nD ed3 ?_
  refine v_aload_n F dX11_win_10 rfl rfl ?_
  refine v_dup_A F dX11_win_11 ?_
  refine gf_X11_829 F dX11_win_12 hp ?_
  refine v_iconst F dX11_win_15 ⟨by decide, by decide⟩ ?_
  refine v_iadd F dX11_win_16 ?_
  obtain ⟨d4, ed4, h⟩ := sd_some h
  refine pf_X11_829 F dX11_win_17 hp ?_
  refine v_nD ed4 ?_
  cases h
  cases (show _ = d' from K)
  exact v_vret F dX11_win_20
def fX11_electLists_33P (w : Wd) (l : Launch) (G : Cx) (Q : State → Prop) (m : Dt) (a1 : Int) (s : Dt × Int) : Prop := V w l WF G Q s.1 m 0 0 33 [mA 1545, mI a1, mI (s.2), mU, mU, mU] []
def fX11_electLists_78P (w : Wd) (l : Launch) (G : Cx) (Q : State → Prop) (m : Dt) (a1 : Int) (s : Dt × Int) : Prop := V w l WF G Q s.1 m 0 0 78 [mA 1545, mI a1, mI (s.2), mU, mU, mU] []
def fX11_electLists_149P (w : Wd) (l : Launch) (G : Cx) (Q : State → Prop) (m : Dt) (a1 : Int) (s : Dt × Int) : Prop := V w l WF G Q s.1 m 0 0 149 [mA 1545, mI a1, mI (s.2), mU, mU, mU] []
def fX11_electLists_167P (w : Wd) (l : Launch) (G : Cx) (Q : State → Prop) (m : Dt) (a1 v2 v3 : Int) (s : Dt × Int) : Prop := V w l WF G Q s.1 m 0 0 167 [mA 1545, mI a1, mI v2, mI v3, mI (s.2), mU] []
theorem fX11_electLists_232_ok {w : Wd} {l : Launch} {G : Cx} {d m dd : Dt} {a1 v2 v3 v4 v5 : Int} {d' : Dt} {x : ((Dt × Int) ⊕ ((Dt × Int) ⊕ Dt))} (F : Fx w G cX11_electLists RX11 6 none { frames := 2, cells := 0, slots := 0, locals := 44 }) (hX : WF dd m) (hp : PB m 1545 11) (h : fX11_electLists_232 d a1 v2 v3 v4 v5 = some x) (K : (Sum.elim (fX11_electLists_167P w l G (QM w G WF none d' m 0 0) m a1 v2 v3) (Sum.elim (fX11_electLists_149P w l G (QM w G WF none d' m 0 0) m a1) (fun q => q = d'))) x) : V w l WF G (QM w G WF none d' m 0 0) d m 0 0 232 [mA 1545, mI a1, mI v2, mI v3, mI v4, mI v5] [] := by
  unfold fX11_electLists_232 at h
  refine v_aload_n F dX11_electLists_232 rfl rfl ?_
  refine v_iload F dX11_electLists_233 rfl ?_
  obtain ⟨d21, hc22, h⟩ := bd_some h
  refine v_callV0 (c := 11) F dX11_electLists_235 cv_X11_832 rfl (PB.ob hp hX (Nat.le_of_ble_eq_true rfl)) (Nat.le_of_ble_eq_true rfl) rfl (vm_X11_win hp hc22) rfl (rOk.of rfl) ?_
  refine v_aload_n F dX11_electLists_238 rfl rfl ?_
  refine gf_X11_1066 F dX11_electLists_239 hp (v := 1649) rfl ?_
  refine v_iload_n F dX11_electLists_242 rfl rfl ?_
  refine v_dup2_IA F dX11_electLists_243 ?_
  obtain ⟨hi23, h⟩ := ck_some h
  refine v_iald F dX11_electLists_244 (ar_X11_146 hX hp) hi23 ?_
  refine v_iconst F dX11_electLists_245 ⟨by decide, by decide⟩ ?_
  refine v_iadd F dX11_electLists_246 ?_
  obtain ⟨d24, ed24, h⟩ := sd_some h
  refine v_iast F dX11_electLists_247 (ar_X11_146 hX hp) hi23 ?_
  refine v_nD ed24 ?_
  obtain ⟨x25, ex25, h⟩ := lv_some h
  refine v_iincN F dX11_electLists_248 (Nat.le_of_ble_eq_true rfl) rfl ex25 (L' := [mA 1545, mI a1, mI v2, mI v3, mI x25, mI v5]) rfl ?_
  refine v_goto F dX11_electLists_251 rfl ?_
  cases h
  refine v_fgt (L' := [mA 1545, mI a1, mI v2, mI v3, mI x25, mU]) ⟨Or.inl rfl, Or.inl rfl, Or.inl rfl, Or.inl rfl, Or.inl rfl, Or.inr rfl, trivial⟩ ?_
  exact K
theorem fX11_electLists_167f_ok {w : Wd} {l : Launch} {G : Cx} {m dd : Dt} {a1 v2 v3 : Int} {d' : Dt} {s : Dt × Int} {x : ((Dt × Int) ⊕ ((Dt × Int) ⊕ Dt))} (F : Fx w G cX11_electLists RX11 6 none { frames := 2, cells := 0, slots := 0, locals := 44 }) (hX : WF dd m) (hp : PB m 1545 11) (h : fX11_electLists_167f a1 v2 v3 s = some x) (K : (Sum.elim (fX11_electLists_167P w l G (QM w G WF none d' m 0 0) m a1 v2 v3) (Sum.elim (fX11_electLists_149P w l G (QM w G WF none d' m 0 0) m a1) (fun q => q = d'))) x) : V w l WF G (QM w G WF none d' m 0 0) s.1 m 0 0 167 [mA 1545, mI a1, mI v2, mI v3, mI (s.2), mU] [] := by
  obtain ⟨d, v4⟩ := s
  unfold fX11_electLists_167f at h
  dsimp only at h
  refine v_iload F dX11_electLists_167 rfl ?_
  refine v_aload_n F dX11_electLists_169 rfl rfl ?_
  refine gf_X11_798 F dX11_electLists_170 hp ?_
  refine v_icmp_ge F dX11_electLists_173 rfl (fun hq10 => ?_) (fun hq10 => ?_)
  · rw [if_pos hq10] at h
    obtain ⟨z, hu, ez⟩ := up_some h
    clear h
    subst ez
    have h := hu
    clear hu
    obtain ⟨x11, ex11, h⟩ := lv_some h
    refine v_iincN F dX11_electLists_254 (Nat.le_of_ble_eq_true rfl) rfl ex11 (L' := [mA 1545, mI a1, mI x11, mI v3, mI v4, mU]) rfl ?_
    refine v_goto F dX11_electLists_257 rfl ?_
    cases h
    refine v_fgt (L' := [mA 1545, mI a1, mI x11, mU, mU, mU]) ⟨Or.inl rfl, Or.inl rfl, Or.inl rfl, Or.inr rfl, Or.inr rfl, Or.inl rfl, trivial⟩ ?_
    exact K
  · rw [if_neg hq10] at h
    refine v_aload_n F dX11_electLists_176 rfl rfl ?_
    refine gf_X11_805 F dX11_electLists_177 hp (v := 1622) rfl ?_
    refine v_iload F dX11_electLists_180 rfl ?_
    obtain ⟨hi12, h⟩ := ck_some h
    refine v_iald F dX11_electLists_182 (ar_X11_109 hX hp) hi12 ?_
    obtain ⟨x13, ex13, h⟩ := lv_some h
    refine v_nI ex13 ?_
    refine v_istore F dX11_electLists_183 (Nat.le_of_ble_eq_true rfl) (L' := [mA 1545, mI a1, mI v2, mI v3, mI v4, mI x13]) rfl ?_
    refine v_aload_n F dX11_electLists_185 rfl rfl ?_
    refine gf_X11_1069 F dX11_electLists_186 hp (v := 1641) rfl ?_
    refine v_iload F dX11_electLists_189 rfl ?_
    obtain ⟨hi14, h⟩ := ck_some h
    refine v_iald F dX11_electLists_191 (ar_X11_138 hX hp) hi14 ?_
    refine v_iload_n F dX11_electLists_192 rfl rfl ?_
    refine v_icmp_ne F dX11_electLists_193 rfl (fun hq15 => ?_) (fun hq15 => ?_)
    · rw [if_neg hq15] at h
      obtain ⟨x16, ex16, h⟩ := lv_some h
      refine v_iincN F dX11_electLists_248 (Nat.le_of_ble_eq_true rfl) rfl ex16 (L' := [mA 1545, mI a1, mI v2, mI v3, mI x16, mI x13]) rfl ?_
      refine v_goto F dX11_electLists_251 rfl ?_
      cases h
      refine v_fgt (L' := [mA 1545, mI a1, mI v2, mI v3, mI x16, mU]) ⟨Or.inl rfl, Or.inl rfl, Or.inl rfl, Or.inl rfl, Or.inl rfl, Or.inr rfl, trivial⟩ ?_
      exact K
    · rw [if_pos hq15] at h
      refine v_aload_n F dX11_electLists_196 rfl rfl ?_
      refine gf_X11_1066 F dX11_electLists_197 hp (v := 1649) rfl ?_
      refine v_iload_n F dX11_electLists_200 rfl rfl ?_
      obtain ⟨hi17, h⟩ := ck_some h
      refine v_iald F dX11_electLists_201 (ar_X11_146 hX hp) hi17 ?_
      refine v_aload_n F dX11_electLists_202 rfl rfl ?_
      refine gf_X11_1075 F dX11_electLists_203 hp (v := 1646) rfl ?_
      refine v_iload_n F dX11_electLists_206 rfl rfl ?_
      refine v_iald F dX11_electLists_207 (ar_X11_143 hX hp) hi17 ?_
      refine v_icmp_ge F dX11_electLists_208 rfl (fun hq18 => ?_) (fun hq18 => ?_)
      · rw [if_pos hq18] at h
        obtain ⟨x19, ex19, h⟩ := lv_some h
        refine v_iincN F dX11_electLists_248 (Nat.le_of_ble_eq_true rfl) rfl ex19 (L' := [mA 1545, mI a1, mI v2, mI v3, mI x19, mI x13]) rfl ?_
        refine v_goto F dX11_electLists_251 rfl ?_
        cases h
        refine v_fgt (L' := [mA 1545, mI a1, mI v2, mI v3, mI x19, mU]) ⟨Or.inl rfl, Or.inl rfl, Or.inl rfl, Or.inl rfl, Or.inl rfl, Or.inr rfl, trivial⟩ ?_
        exact K
      · rw [if_neg hq18] at h
        refine v_iload_n F dX11_electLists_211 rfl rfl ?_
        refine v_if_eq F dX11_electLists_212 rfl (fun hq20 => ?_) (fun hq20 => ?_)
        · rw [if_pos hq20] at h
          exact fX11_electLists_232_ok F hX hp h K
        · rw [if_neg hq20] at h
          refine v_aload_n F dX11_electLists_215 rfl rfl ?_
          refine gf_X11_1048 F dX11_electLists_216 hp (v := 1652) rfl ?_
          refine v_aload_n F dX11_electLists_219 rfl rfl ?_
          refine v_iload F dX11_electLists_220 rfl ?_
          obtain ⟨x26, hc27, h⟩ := b1_some h
          refine v_callVv (c := 11) F dX11_electLists_222 cv_X11_1051 rfl (PB.ob hp hX (Nat.le_of_ble_eq_true rfl)) (Nat.le_of_ble_eq_true rfl) rfl (vm_X11_personOf hp hc27) rfl (rOk.of rfl) ?_
          obtain ⟨hi28, h⟩ := ck_some h
          refine v_zald F dX11_electLists_225 (ar_X11_150 hX hp) hi28 ?_
          refine v_if_eq F dX11_electLists_226 rfl (fun hq29 => ?_) (fun hq29 => ?_)
          · rw [if_pos hq29] at h
            exact fX11_electLists_232_ok F hX hp h K
          · rw [if_neg hq29] at h
            refine v_goto F dX11_electLists_229 rfl ?_
            obtain ⟨x30, ex30, h⟩ := lv_some h
            refine v_iincN F dX11_electLists_248 (Nat.le_of_ble_eq_true rfl) rfl ex30 (L' := [mA 1545, mI a1, mI v2, mI v3, mI x30, mI x13]) rfl ?_
            refine v_goto F dX11_electLists_251 rfl ?_
            cases h
            refine v_fgt (L' := [mA 1545, mI a1, mI v2, mI v3, mI x30, mU]) ⟨Or.inl rfl, Or.inl rfl, Or.inl rfl, Or.inl rfl, Or.inl rfl, Or.inr rfl, trivial⟩ ?_
            exact K
theorem fX11_electLists_167_ok {w : Wd} {l : Launch} {G : Cx} {d m dd : Dt} {a1 v2 v3 v4 : Int} {d' : Dt} {x : ((Dt × Int) ⊕ Dt)} (F : Fx w G cX11_electLists RX11 6 none { frames := 2, cells := 0, slots := 0, locals := 44 }) (hX : WF dd m) (hp : PB m 1545 11) (h : fX11_electLists_167 d a1 v2 v3 v4 = some x) (K : (Sum.elim (fX11_electLists_149P w l G (QM w G WF none d' m 0 0) m a1) (fun q => q = d')) x) : V w l WF G (QM w G WF none d' m 0 0) d m 0 0 167 [mA 1545, mI a1, mI v2, mI v3, mI v4, mU] [] := by
  unfold fX11_electLists_167 at h
  exact loop_ok (P := fX11_electLists_167P w l G (QM w G WF none d' m 0 0) m a1 v2 v3) (fun s x hx h1 h2 => fX11_electLists_167f_ok F hX hp hx (by
    cases x with
    | inl s' => exact h1 s' rfl
    | inr z => cases h2 z rfl; exact K)) h
theorem fX11_electLists_149f_ok {w : Wd} {l : Launch} {G : Cx} {m dd : Dt} {a1 : Int} {d' : Dt} {s : Dt × Int} {x : ((Dt × Int) ⊕ Dt)} (F : Fx w G cX11_electLists RX11 6 none { frames := 2, cells := 0, slots := 0, locals := 44 }) (hX : WF dd m) (hp : PB m 1545 11) (h : fX11_electLists_149f a1 s = some x) (K : (Sum.elim (fX11_electLists_149P w l G (QM w G WF none d' m 0 0) m a1) (fun q => q = d')) x) : V w l WF G (QM w G WF none d' m 0 0) s.1 m 0 0 149 [mA 1545, mI a1, mI (s.2), mU, mU, mU] [] := by
  obtain ⟨d, v2⟩ := s
  unfold fX11_electLists_149f at h
  dsimp only at h
  refine v_iload_n F dX11_electLists_149 rfl rfl ?_
  refine v_aload_n F dX11_electLists_150 rfl rfl ?_
  refine gf_X11_1054 F dX11_electLists_151 hp ?_
  refine v_icmp_ge F dX11_electLists_154 rfl (fun hq7 => ?_) (fun hq7 => ?_)
  · rw [if_pos hq7] at h
    obtain ⟨z, hu, ez⟩ := up_some h
    clear h
    subst ez
    have h := hu
    clear hu
    cases h
    cases (show _ = d' from K)
    exact v_vret F dX11_electLists_260
  · rw [if_neg hq7] at h
    refine v_aload_n F dX11_electLists_157 rfl rfl ?_
    refine gf_X11_1097 F dX11_electLists_158 hp (v := 1650) rfl ?_
    refine v_iload_n F dX11_electLists_161 rfl rfl ?_
    obtain ⟨hi8, h⟩ := ck_some h
    refine v_iald F dX11_electLists_162 (ar_X11_147 hX hp) hi8 ?_
    obtain ⟨x9, ex9, h⟩ := lv_some h
    refine v_nI ex9 ?_
    refine v_istore_n F dX11_electLists_163 rfl (Nat.le_of_ble_eq_true rfl) (L' := [mA 1545, mI a1, mI v2, mI x9, mU, mU]) rfl ?_
    refine v_iconst F dX11_electLists_164 ⟨by decide, by decide⟩ ?_
    refine v_istore F dX11_electLists_165 (Nat.le_of_ble_eq_true rfl) (L' := [mA 1545, mI a1, mI v2, mI x9, mI 0, mU]) rfl ?_
    exact fX11_electLists_167_ok F hX hp h K
theorem fX11_electLists_149_ok {w : Wd} {l : Launch} {G : Cx} {d m dd : Dt} {a1 v2 : Int} {d' : Dt} {x : Dt} (F : Fx w G cX11_electLists RX11 6 none { frames := 2, cells := 0, slots := 0, locals := 44 }) (hX : WF dd m) (hp : PB m 1545 11) (h : fX11_electLists_149 d a1 v2 = some x) (K : (fun q => q = d') x) : V w l WF G (QM w G WF none d' m 0 0) d m 0 0 149 [mA 1545, mI a1, mI v2, mU, mU, mU] [] := by
  unfold fX11_electLists_149 at h
  exact loop_ok (P := fX11_electLists_149P w l G (QM w G WF none d' m 0 0) m a1) (fun s x hx h1 h2 => fX11_electLists_149f_ok F hX hp hx (by
    cases x with
    | inl s' => exact h1 s' rfl
    | inr z => cases h2 z rfl; exact K)) h
def fX11_electLists_88P (w : Wd) (l : Launch) (G : Cx) (Q : State → Prop) (m : Dt) (a1 v2 : Int) (s : Dt × Int) : Prop := V w l WF G Q s.1 m 0 0 88 [mA 1545, mI a1, mI v2, mI (s.2), mU, mU] []
theorem fX11_electLists_134_ok {w : Wd} {l : Launch} {G : Cx} {d m dd : Dt} {a1 v2 v3 : Int} {d' : Dt} {x : ((Dt × Int) ⊕ Dt)} (F : Fx w G cX11_electLists RX11 6 none { frames := 2, cells := 0, slots := 0, locals := 44 }) (hX : WF dd m) (hp : PB m 1545 11) (h : fX11_electLists_134 d a1 v2 v3 = some x) (K : (Sum.elim (fX11_electLists_78P w l G (QM w G WF none d' m 0 0) m a1) (fun q => q = d')) x) : V w l WF G (QM w G WF none d' m 0 0) d m 0 0 134 [mA 1545, mI a1, mI v2, mI v3, mU, mU] [] := by
  unfold fX11_electLists_134 at h
  refine v_aload_n F dX11_electLists_134 rfl rfl ?_
  refine gf_X11_1097 F dX11_electLists_135 hp (v := 1650) rfl ?_
  refine v_iload_n F dX11_electLists_138 rfl rfl ?_
  refine v_iload_n F dX11_electLists_139 rfl rfl ?_
  obtain ⟨hi32, h⟩ := ck_some h
  obtain ⟨d33, ed33, h⟩ := sd_some h
  refine v_iast F dX11_electLists_140 (ar_X11_147 hX hp) hi32 ?_
  refine v_nD ed33 ?_
  obtain ⟨x34, ex34, h⟩ := lv_some h
  refine v_iincN F dX11_electLists_141 (Nat.le_of_ble_eq_true rfl) rfl ex34 (L' := [mA 1545, mI a1, mI x34, mI v3, mU, mU]) rfl ?_
  refine v_goto F dX11_electLists_144 rfl ?_
  cases h
  refine v_fgt (L' := [mA 1545, mI a1, mI x34, mU, mU, mU]) ⟨Or.inl rfl, Or.inl rfl, Or.inl rfl, Or.inr rfl, Or.inl rfl, Or.inl rfl, trivial⟩ ?_
  exact K
theorem fX11_electLists_88f_ok {w : Wd} {l : Launch} {G : Cx} {m dd : Dt} {a1 v2 : Int} {d' : Dt} {s : Dt × Int} {x : ((Dt × Int) ⊕ ((Dt × Int) ⊕ Dt))} (F : Fx w G cX11_electLists RX11 6 none { frames := 2, cells := 0, slots := 0, locals := 44 }) (hX : WF dd m) (hp : PB m 1545 11) (h : fX11_electLists_88f a1 v2 s = some x) (K : (Sum.elim (fX11_electLists_88P w l G (QM w G WF none d' m 0 0) m a1 v2) (Sum.elim (fX11_electLists_78P w l G (QM w G WF none d' m 0 0) m a1) (fun q => q = d'))) x) : V w l WF G (QM w G WF none d' m 0 0) s.1 m 0 0 88 [mA 1545, mI a1, mI v2, mI (s.2), mU, mU] [] := by
  obtain ⟨d, v3⟩ := s
  unfold fX11_electLists_88f at h
  dsimp only at h
  refine v_iload_n F dX11_electLists_88 rfl rfl ?_
  refine v_if_le F dX11_electLists_89 rfl (fun hq31 => ?_) (fun hq31 => ?_)
  · rw [if_pos hq31] at h
    obtain ⟨z, hu, ez⟩ := up_some h
    clear h
    subst ez
    have h := hu
    clear hu
    exact fX11_electLists_134_ok F hX hp h K
  · rw [if_neg hq31] at h
    refine v_aload_n F dX11_electLists_92 rfl rfl ?_
    refine gf_X11_1063 F dX11_electLists_93 hp (v := 1643) rfl ?_
    refine v_iload_n F dX11_electLists_96 rfl rfl ?_
    obtain ⟨hi35, h⟩ := ck_some h
    refine v_iald F dX11_electLists_97 (ar_X11_140 hX hp) hi35 ?_
    refine v_aload_n F dX11_electLists_98 rfl rfl ?_
    refine gf_X11_1063 F dX11_electLists_99 hp (v := 1643) rfl ?_
    refine v_aload_n F dX11_electLists_102 rfl rfl ?_
    refine gf_X11_1097 F dX11_electLists_103 hp (v := 1650) rfl ?_
    refine v_iload_n F dX11_electLists_106 rfl rfl ?_
    refine v_iconst F dX11_electLists_107 ⟨by decide, by decide⟩ ?_
    refine v_isub F dX11_electLists_108 ?_
    obtain ⟨x36, ex36, h⟩ := lv_some h
    refine v_nI ex36 ?_
    obtain ⟨hi37, h⟩ := ck_some h
    refine v_iald F dX11_electLists_109 (ar_X11_147 hX hp) hi37 ?_
    obtain ⟨x38, ex38, h⟩ := lv_some h
    refine v_nI ex38 ?_
    obtain ⟨hi39, h⟩ := ck_some h
    refine v_iald F dX11_electLists_110 (ar_X11_140 hX hp) hi39 ?_
    refine v_icmp_le F dX11_electLists_111 rfl (fun hq40 => ?_) (fun hq40 => ?_)
    · rw [if_pos hq40] at h
      obtain ⟨z, hu, ez⟩ := up_some h
      clear h
      subst ez
      have h := hu
      clear hu
      exact fX11_electLists_134_ok F hX hp h K
    · rw [if_neg hq40] at h
      refine v_aload_n F dX11_electLists_114 rfl rfl ?_
      refine gf_X11_1097 F dX11_electLists_115 hp (v := 1650) rfl ?_
      refine v_iload_n F dX11_electLists_118 rfl rfl ?_
      refine v_aload_n F dX11_electLists_119 rfl rfl ?_
      refine gf_X11_1097 F dX11_electLists_120 hp (v := 1650) rfl ?_
      refine v_iload_n F dX11_electLists_123 rfl rfl ?_
      refine v_iconst F dX11_electLists_124 ⟨by decide, by decide⟩ ?_
      refine v_isub F dX11_electLists_125 ?_
      obtain ⟨x41, ex41, h⟩ := lv_some h
      refine v_nI ex41 ?_
      obtain ⟨hi42, h⟩ := ck_some h
      refine v_iald F dX11_electLists_126 (ar_X11_147 hX hp) hi42 ?_
      obtain ⟨hi43, h⟩ := ck_some h
      obtain ⟨d44, ed44, h⟩ := sd_some h
      refine v_iast F dX11_electLists_127 (ar_X11_147 hX hp) hi43 ?_
      refine v_nD ed44 ?_
      obtain ⟨x45, ex45, h⟩ := lv_some h
      refine v_iincN F dX11_electLists_128 (Nat.le_of_ble_eq_true rfl) rfl ex45 (L' := [mA 1545, mI a1, mI v2, mI x45, mU, mU]) rfl ?_
      refine v_goto F dX11_electLists_131 rfl ?_
      cases h
      exact K
theorem fX11_electLists_88_ok {w : Wd} {l : Launch} {G : Cx} {d m dd : Dt} {a1 v2 v3 : Int} {d' : Dt} {x : ((Dt × Int) ⊕ Dt)} (F : Fx w G cX11_electLists RX11 6 none { frames := 2, cells := 0, slots := 0, locals := 44 }) (hX : WF dd m) (hp : PB m 1545 11) (h : fX11_electLists_88 d a1 v2 v3 = some x) (K : (Sum.elim (fX11_electLists_78P w l G (QM w G WF none d' m 0 0) m a1) (fun q => q = d')) x) : V w l WF G (QM w G WF none d' m 0 0) d m 0 0 88 [mA 1545, mI a1, mI v2, mI v3, mU, mU] [] := by
  unfold fX11_electLists_88 at h
  exact loop_ok (P := fX11_electLists_88P w l G (QM w G WF none d' m 0 0) m a1 v2) (fun s x hx h1 h2 => fX11_electLists_88f_ok F hX hp hx (by
    cases x with
    | inl s' => exact h1 s' rfl
    | inr z => cases h2 z rfl; exact K)) h
theorem fX11_electLists_78f_ok {w : Wd} {l : Launch} {G : Cx} {m dd : Dt} {a1 : Int} {d' : Dt} {s : Dt × Int} {x : ((Dt × Int) ⊕ Dt)} (F : Fx w G cX11_electLists RX11 6 none { frames := 2, cells := 0, slots := 0, locals := 44 }) (hX : WF dd m) (hp : PB m 1545 11) (h : fX11_electLists_78f a1 s = some x) (K : (Sum.elim (fX11_electLists_78P w l G (QM w G WF none d' m 0 0) m a1) (fun q => q = d')) x) : V w l WF G (QM w G WF none d' m 0 0) s.1 m 0 0 78 [mA 1545, mI a1, mI (s.2), mU, mU, mU] [] := by
  obtain ⟨d, v2⟩ := s
  unfold fX11_electLists_78f at h
  dsimp only at h
  refine v_iload_n F dX11_electLists_78 rfl rfl ?_
  refine v_aload_n F dX11_electLists_79 rfl rfl ?_
  refine gf_X11_1054 F dX11_electLists_80 hp ?_
  refine v_icmp_ge F dX11_electLists_83 rfl (fun hq6 => ?_) (fun hq6 => ?_)
  · rw [if_pos hq6] at h
    obtain ⟨z, hu, ez⟩ := up_some h
    clear h
    subst ez
    have h := hu
    clear hu
    refine v_iconst F dX11_electLists_147 ⟨by decide, by decide⟩ ?_
    refine v_istore_n F dX11_electLists_148 rfl (Nat.le_of_ble_eq_true rfl) (L' := [mA 1545, mI a1, mI 0, mU, mU, mU]) rfl ?_
    exact fX11_electLists_149_ok F hX hp h K
  · rw [if_neg hq6] at h
    refine v_iload_n F dX11_electLists_86 rfl rfl ?_
    refine v_istore_n F dX11_electLists_87 rfl (Nat.le_of_ble_eq_true rfl) (L' := [mA 1545, mI a1, mI v2, mI v2, mU, mU]) rfl ?_
    exact fX11_electLists_88_ok F hX hp h K
theorem fX11_electLists_78_ok {w : Wd} {l : Launch} {G : Cx} {d m dd : Dt} {a1 v2 : Int} {d' : Dt} {x : Dt} (F : Fx w G cX11_electLists RX11 6 none { frames := 2, cells := 0, slots := 0, locals := 44 }) (hX : WF dd m) (hp : PB m 1545 11) (h : fX11_electLists_78 d a1 v2 = some x) (K : (fun q => q = d') x) : V w l WF G (QM w G WF none d' m 0 0) d m 0 0 78 [mA 1545, mI a1, mI v2, mU, mU, mU] [] := by
  unfold fX11_electLists_78 at h
  exact loop_ok (P := fX11_electLists_78P w l G (QM w G WF none d' m 0 0) m a1) (fun s x hx h1 h2 => fX11_electLists_78f_ok F hX hp hx (by
    cases x with
    | inl s' => exact h1 s' rfl
    | inr z => cases h2 z rfl; exact K)) h
theorem fX11_electLists_33f_ok {w : Wd} {l : Launch} {G : Cx} {m dd : Dt} {a1 : Int} {d' : Dt} {s : Dt × Int} {x : ((Dt × Int) ⊕ Dt)} (F : Fx w G cX11_electLists RX11 6 none { frames := 2, cells := 0, slots := 0, locals := 44 }) (hX : WF dd m) (hp : PB m 1545 11) (h : fX11_electLists_33f a1 s = some x) (K : (Sum.elim (fX11_electLists_33P w l G (QM w G WF none d' m 0 0) m a1) (fun q => q = d')) x) : V w l WF G (QM w G WF none d' m 0 0) s.1 m 0 0 33 [mA 1545, mI a1, mI (s.2), mU, mU, mU] [] := by
  obtain ⟨d, v2⟩ := s
  unfold fX11_electLists_33f at h
  dsimp only at h
  refine v_iload_n F dX11_electLists_33 rfl rfl ?_
  refine v_aload_n F dX11_electLists_34 rfl rfl ?_
  refine gf_X11_755 F dX11_electLists_35 hp ?_
  refine v_icmp_ge F dX11_electLists_38 rfl (fun hq5 => ?_) (fun hq5 => ?_)
  · rw [if_pos hq5] at h
    obtain ⟨z, hu, ez⟩ := up_some h
    clear h
    subst ez
    have h := hu
    clear hu
    refine v_iconst F dX11_electLists_76 ⟨by decide, by decide⟩ ?_
    refine v_istore_n F dX11_electLists_77 rfl (Nat.le_of_ble_eq_true rfl) (L' := [mA 1545, mI a1, mI 0, mU, mU, mU]) rfl ?_
    exact fX11_electLists_78_ok F hX hp h K
  · rw [if_neg hq5] at h
    refine v_aload_n F dX11_electLists_41 rfl rfl ?_
    refine gf_X11_764 F dX11_electLists_42 hp (v := 1617) rfl ?_
    refine v_iload_n F dX11_electLists_45 rfl rfl ?_
    obtain ⟨hi46, h⟩ := ck_some h
    refine v_zald F dX11_electLists_46 (ar_X11_101 hX hp) hi46 ?_
    refine v_if_eq F dX11_electLists_47 rfl (fun hq47 => ?_) (fun hq47 => ?_)
    · rw [if_pos hq47] at h
      obtain ⟨x48, ex48, h⟩ := lv_some h
      refine v_iincN F dX11_electLists_70 (Nat.le_of_ble_eq_true rfl) rfl ex48 (L' := [mA 1545, mI a1, mI x48, mU, mU, mU]) rfl ?_
      refine v_goto F dX11_electLists_73 rfl ?_
      cases h
      exact K
    · rw [if_neg hq47] at h
      refine v_aload_n F dX11_electLists_50 rfl rfl ?_
      refine gf_X11_805 F dX11_electLists_51 hp (v := 1622) rfl ?_
      refine v_aload_n F dX11_electLists_54 rfl rfl ?_
      refine gf_X11_798 F dX11_electLists_55 hp ?_
      refine v_iload_n F dX11_electLists_58 rfl rfl ?_
      obtain ⟨x49, ex49, h⟩ := lv_some h
      refine v_n2 ex49 ?_
      obtain ⟨hi50, h⟩ := ck_some h
      obtain ⟨d51, ed51, h⟩ := sd_some h
      refine v_iast F dX11_electLists_59 (ar_X11_109 hX hp) hi50 ?_
      refine v_nD ed51 ?_
      refine v_aload_n F dX11_electLists_60 rfl rfl ?_
      refine v_dup_A F dX11_electLists_61 ?_
      refine gf_X11_798 F dX11_electLists_62 hp ?_
      refine v_iconst F dX11_electLists_65 ⟨by decide, by decide⟩ ?_
      refine v_iadd F dX11_electLists_66 ?_
      obtain ⟨d52, ed52, h⟩ := sd_some h
      refine pf_X11_798 F dX11_electLists_67 hp ?_
      refine v_nD ed52 ?_
      obtain ⟨x53, ex53, h⟩ := lv_some h
      refine v_iincN F dX11_electLists_70 (Nat.le_of_ble_eq_true rfl) rfl ex53 (L' := [mA 1545, mI a1, mI x53, mU, mU, mU]) rfl ?_
      refine v_goto F dX11_electLists_73 rfl ?_
      cases h
      exact K
theorem fX11_electLists_33_ok {w : Wd} {l : Launch} {G : Cx} {d m dd : Dt} {a1 v2 : Int} {d' : Dt} {x : Dt} (F : Fx w G cX11_electLists RX11 6 none { frames := 2, cells := 0, slots := 0, locals := 44 }) (hX : WF dd m) (hp : PB m 1545 11) (h : fX11_electLists_33 d a1 v2 = some x) (K : (fun q => q = d') x) : V w l WF G (QM w G WF none d' m 0 0) d m 0 0 33 [mA 1545, mI a1, mI v2, mU, mU, mU] [] := by
  unfold fX11_electLists_33 at h
  exact loop_ok (P := fX11_electLists_33P w l G (QM w G WF none d' m 0 0) m a1) (fun s x hx h1 h2 => fX11_electLists_33f_ok F hX hp hx (by
    cases x with
    | inl s' => exact h1 s' rfl
    | inr z => cases h2 z rfl; exact K)) h
theorem vm_X11_electLists {w : Wd} {l : Launch} {d m : Dt} {a1 : Int} {d' : Dt} (hp : PB m 1545 11) (h : fX11_electLists d a1 = some d') : VM w l WF yX11_electLists cX11_electLists 6 none 2 44 0 0 d m [mA 1545, mI a1] none d' m := by
  obtain ⟨x, h, K⟩ : ∃ x, fX11_electLists d a1 = some x ∧ x = d' := ⟨_, h, rfl⟩
  refine VM.of (L := [mA 1545, mI a1, mU, mU, mU, mU]) (by decide +kernel) rfl (Nat.le_of_ble_eq_true rfl) fun G F _ => v_fact fun _ hX _ _ => ?_
  unfold fX11_electLists at h
  refine v_aload_n F dX11_electLists_0 rfl rfl ?_
  refine v_aload_n F dX11_electLists_1 rfl rfl ?_
  refine gf_X11_749 F dX11_electLists_2 hp ?_
  refine v_bipush F dX11_electLists_5 rfl ⟨by decide, by decide⟩ ?_
  obtain ⟨x1, hc2, h⟩ := b1_some h
  refine v_callVv (c := 11) F dX11_electLists_7 cv_X11_485 rfl (PB.ob hp hX (Nat.le_of_ble_eq_true rfl)) (Nat.le_of_ble_eq_true rfl) rfl (vm_X11_contestIs hp hc2) rfl (rOk.of rfl) ?_
  refine v_iconst F dX11_electLists_10 ⟨by decide, by decide⟩ ?_
  refine v_icmp_ne F dX11_electLists_11 rfl (fun hq3 => ?_) (fun hq3 => ?_)
  · rw [if_neg hq3] at h
    refine v_aload_n F dX11_electLists_26 rfl rfl ?_
    refine v_iconst F dX11_electLists_27 ⟨by decide, by decide⟩ ?_
    obtain ⟨d4, ed4, h⟩ := sd_some h
    refine pf_X11_798 F dX11_electLists_28 hp ?_
    refine v_nD ed4 ?_
    refine v_iconst F dX11_electLists_31 ⟨by decide, by decide⟩ ?_
    refine v_istore_n F dX11_electLists_32 rfl (Nat.le_of_ble_eq_true rfl) (L' := [mA 1545, mI a1, mI 0, mU, mU, mU]) rfl ?_
    exact fX11_electLists_33_ok F hX hp h K
  · rw [if_pos hq3] at h
    refine v_aload_n F dX11_electLists_14 rfl rfl ?_
    refine v_iconst F dX11_electLists_15 ⟨by decide, by decide⟩ ?_
    obtain ⟨d54, hc55, h⟩ := bd_some h
    refine v_callV0 (c := 11) F dX11_electLists_16 cv_X11_865 rfl (PB.ob hp hX (Nat.le_of_ble_eq_true rfl)) (Nat.le_of_ble_eq_true rfl) rfl (vm_X11_votesByMarks hp hc55) rfl (rOk.of rfl) ?_
    refine v_aload_n F dX11_electLists_19 rfl rfl ?_
    obtain ⟨d56, hc57, h⟩ := bd_some h
    refine v_callV0 (c := 11) F dX11_electLists_20 cv_X11_871 rfl (PB.ob hp hX (Nat.le_of_ble_eq_true rfl)) (Nat.le_of_ble_eq_true rfl) rfl (vm_X11_orderByVotes hp hc57) rfl (rOk.of rfl) ?_
    refine v_goto F dX11_electLists_23 rfl ?_
    refine v_iconst F dX11_electLists_76 ⟨by decide, by decide⟩ ?_
    refine v_istore_n F dX11_electLists_77 rfl (Nat.le_of_ble_eq_true rfl) (L' := [mA 1545, mI a1, mI 0, mU, mU, mU]) rfl ?_
    exact fX11_electLists_78_ok F hX hp h K
def fX11_tell_2P (w : Wd) (l : Launch) (G : Cx) (Q : State → Prop) (m : Dt) (s : Dt × Int) : Prop := V w l WF G Q s.1 m 0 0 2 [mA 1545, mI (s.2)] []
theorem fX11_tell_48_ok {w : Wd} {l : Launch} {G : Cx} {d m dd : Dt} {v1 s1 s2 : Int} {d' : Dt} {x : ((Dt × Int) ⊕ Dt)} (F : Fx w G cX11_tell RX11 2 none { frames := 0, cells := 0, slots := 0, locals := 0 }) (hX : WF dd m) (hp : PB m 1545 11) (h : fX11_tell_48 d v1 s1 s2 = some x) (K : (Sum.elim (fX11_tell_2P w l G (QM w G WF none d' m 0 0) m) (fun q => q = d')) x) : V w l WF G (QM w G WF none d' m 0 0) d m 0 0 48 [mA 1545, mI v1] [mL s2, mI s1, mA 1623] := by
  unfold fX11_tell_48 at h
  obtain ⟨hi10, h⟩ := ck_some h
  obtain ⟨d11, ed11, h⟩ := sd_some h
  refine v_last F dX11_tell_48 (ar_X11_117 hX hp) hi10 ?_
  refine v_nD ed11 ?_
  obtain ⟨x12, ex12, h⟩ := lv_some h
  refine v_iincN F dX11_tell_49 (Nat.le_of_ble_eq_true rfl) rfl ex12 (L' := [mA 1545, mI x12]) rfl ?_
  refine v_goto F dX11_tell_52 rfl ?_
  cases h
  exact K
theorem fX11_tell_2f_ok {w : Wd} {l : Launch} {G : Cx} {m dd : Dt} {d' : Dt} {s : Dt × Int} {x : ((Dt × Int) ⊕ Dt)} (F : Fx w G cX11_tell RX11 2 none { frames := 0, cells := 0, slots := 0, locals := 0 }) (hX : WF dd m) (hp : PB m 1545 11) (h : fX11_tell_2f s = some x) (K : (Sum.elim (fX11_tell_2P w l G (QM w G WF none d' m 0 0) m) (fun q => q = d')) x) : V w l WF G (QM w G WF none d' m 0 0) s.1 m 0 0 2 [mA 1545, mI (s.2)] [] := by
  obtain ⟨d, v1⟩ := s
  unfold fX11_tell_2f at h
  dsimp only at h
  refine v_iload_n F dX11_tell_2 rfl rfl ?_
  refine v_bipush F dX11_tell_3 rfl ⟨by decide, by decide⟩ ?_
  refine v_icmp_ge F dX11_tell_5 rfl (fun hq1 => ?_) (fun hq1 => ?_)
  · rw [if_pos hq1] at h
    obtain ⟨z, hu, ez⟩ := up_some h
    clear h
    subst ez
    have h := hu
    clear hu
    refine v_aload_n F dX11_tell_55 rfl rfl ?_
    refine gf_X11_820 F dX11_tell_56 hp (v := 1624) rfl ?_
    refine v_aload_n F dX11_tell_59 rfl rfl ?_
    refine gf_X11_817 F dX11_tell_60 hp ?_
    refine v_iconst F dX11_tell_63 ⟨by decide, by decide⟩ ?_
    obtain ⟨x2, ex2, h⟩ := lv_some h
    refine v_n2 ex2 ?_
    obtain ⟨hi3, h⟩ := ck_some h
    obtain ⟨d4, ed4, h⟩ := sd_some h
    refine v_iast F dX11_tell_64 (ar_X11_118 hX hp) hi3 ?_
    refine v_nD ed4 ?_
    refine v_aload_n F dX11_tell_65 rfl rfl ?_
    refine gf_X11_823 F dX11_tell_66 hp (v := 1625) rfl ?_
    refine v_aload_n F dX11_tell_69 rfl rfl ?_
    refine gf_X11_817 F dX11_tell_70 hp ?_
    refine v_iconst F dX11_tell_73 ⟨by decide, by decide⟩ ?_
    obtain ⟨x5, ex5, h⟩ := lv_some h
    refine v_n2 ex5 ?_
    obtain ⟨hi6, h⟩ := ck_some h
    obtain ⟨d7, ed7, h⟩ := sd_some h
    refine v_iast F dX11_tell_74 (ar_X11_119 hX hp) hi6 ?_
    refine v_nD ed7 ?_
    refine v_aload_n F dX11_tell_75 rfl rfl ?_
    refine v_dup_A F dX11_tell_76 ?_
    refine gf_X11_817 F dX11_tell_77 hp ?_
    refine v_iconst F dX11_tell_80 ⟨by decide, by decide⟩ ?_
    refine v_iadd F dX11_tell_81 ?_
    obtain ⟨d8, ed8, h⟩ := sd_some h
    refine pf_X11_817 F dX11_tell_82 hp ?_
    refine v_nD ed8 ?_
    cases h
    cases (show _ = d' from K)
    exact v_vret F dX11_tell_85
  · rw [if_neg hq1] at h
    refine v_aload_n F dX11_tell_8 rfl rfl ?_
    refine gf_X11_814 F dX11_tell_9 hp (v := 1623) rfl ?_
    refine v_bipush F dX11_tell_12 rfl ⟨by decide, by decide⟩ ?_
    refine v_aload_n F dX11_tell_14 rfl rfl ?_
    refine gf_X11_817 F dX11_tell_15 hp ?_
    refine v_imul F dX11_tell_18 ?_
    refine v_iload_n F dX11_tell_19 rfl rfl ?_
    refine v_iadd F dX11_tell_20 ?_
    refine v_iload_n F dX11_tell_21 rfl rfl ?_
    refine v_aload_n F dX11_tell_22 rfl rfl ?_
    refine gf_X11_755 F dX11_tell_23 hp ?_
    refine v_icmp_ge F dX11_tell_26 rfl (fun hq9 => ?_) (fun hq9 => ?_)
    · rw [if_pos hq9] at h
      refine v_lconst0 F dX11_tell_47 ?_
      exact fX11_tell_48_ok F hX hp h K
    · rw [if_neg hq9] at h
      refine v_aload_n F dX11_tell_29 rfl rfl ?_
      refine gf_X11_764 F dX11_tell_30 hp (v := 1617) rfl ?_
      refine v_iload_n F dX11_tell_33 rfl rfl ?_
      obtain ⟨hi13, h⟩ := ck_some h
      refine v_zald F dX11_tell_34 (ar_X11_101 hX hp) hi13 ?_
      refine v_if_eq F dX11_tell_35 rfl (fun hq14 => ?_) (fun hq14 => ?_)
      · rw [if_pos hq14] at h
        refine v_lconst0 F dX11_tell_47 ?_
        exact fX11_tell_48_ok F hX hp h K
      · rw [if_neg hq14] at h
        refine v_aload_n F dX11_tell_38 rfl rfl ?_
        refine gf_X11_801 F dX11_tell_39 hp (v := 1621) rfl ?_
        refine v_iload_n F dX11_tell_42 rfl rfl ?_
        refine v_lald F dX11_tell_43 (ar_X11_108 hX hp) hi13 ?_
        refine v_goto F dX11_tell_44 rfl ?_
        exact fX11_tell_48_ok F hX hp h K
theorem fX11_tell_2_ok {w : Wd} {l : Launch} {G : Cx} {d m dd : Dt} {v1 : Int} {d' : Dt} {x : Dt} (F : Fx w G cX11_tell RX11 2 none { frames := 0, cells := 0, slots := 0, locals := 0 }) (hX : WF dd m) (hp : PB m 1545 11) (h : fX11_tell_2 d v1 = some x) (K : (fun q => q = d') x) : V w l WF G (QM w G WF none d' m 0 0) d m 0 0 2 [mA 1545, mI v1] [] := by
  unfold fX11_tell_2 at h
  exact loop_ok (P := fX11_tell_2P w l G (QM w G WF none d' m 0 0) m) (fun s x hx h1 h2 => fX11_tell_2f_ok F hX hp hx (by
    cases x with
    | inl s' => exact h1 s' rfl
    | inr z => cases h2 z rfl; exact K)) h
theorem vm_X11_tell {w : Wd} {l : Launch} {d m : Dt} {d' : Dt} (hp : PB m 1545 11) (h : fX11_tell d = some d') : VM w l WF yX11_tell cX11_tell 2 none 0 0 0 0 d m [mA 1545] none d' m := by
  obtain ⟨x, h, K⟩ : ∃ x, fX11_tell d = some x ∧ x = d' := ⟨_, h, rfl⟩
  refine VM.of (L := [mA 1545, mU]) (by decide +kernel) rfl (Nat.le_of_ble_eq_true rfl) fun G F _ => v_fact fun _ hX _ _ => ?_
  unfold fX11_tell at h
  refine v_iconst F dX11_tell_0 ⟨by decide, by decide⟩ ?_
  refine v_istore_n F dX11_tell_1 rfl (Nat.le_of_ble_eq_true rfl) (L' := [mA 1545, mI 0]) rfl ?_
  exact fX11_tell_2_ok F hX hp h K
def fX11_countLists_39P (w : Wd) (l : Launch) (G : Cx) (Q : State → Prop) (m : Dt) (a1 a2 v3 : Int) (s : Dt × Int) : Prop := V w l WF G Q s.1 m 0 0 39 [mA 1545, mU, mU, mI v3, mI (s.2)] []
def fX11_countLists_156P (w : Wd) (l : Launch) (G : Cx) (Q : State → Prop) (m : Dt) (a1 a2 : Int) (s : Dt × Int) : Prop := V w l WF G Q s.1 m 0 0 156 [mA 1545, mU, mU, mU, mI (s.2)] []
def fX11_countLists_212P (w : Wd) (l : Launch) (G : Cx) (Q : State → Prop) (m : Dt) (a1 a2 : Int) (s : Dt × Int) : Prop := V w l WF G Q s.1 m 0 0 212 [mA 1545, mU, mU, mU, mI (s.2)] []
theorem fX11_countLists_254_ok {w : Wd} {l : Launch} {G : Cx} {d m dd : Dt} {a1 a2 v4 s1 s2 : Int} {d' : Dt} {x : ((Dt × Int) ⊕ Dt)} (F : Fx w G cX11_countLists RX11 5 none { frames := 6, cells := 0, slots := 0, locals := 140 }) (hX : WF dd m) (hp : PB m 1545 11) (h : fX11_countLists_254 d a1 a2 v4 s1 s2 = some x) (K : (Sum.elim (fX11_countLists_212P w l G (QM w G WF none d' m 0 0) m a1 a2) (fun q => q = d')) x) : V w l WF G (QM w G WF none d' m 0 0) d m 0 0 254 [mA 1545, mU, mU, mU, mI v4] [mL s2, mI s1, mA 1621] := by
  unfold fX11_countLists_254 at h
  obtain ⟨hi27, h⟩ := ck_some h
  obtain ⟨d28, ed28, h⟩ := sd_some h
  refine v_last F dX11_countLists_254 (ar_X11_108 hX hp) hi27 ?_
  refine v_nD ed28 ?_
  obtain ⟨x29, ex29, h⟩ := lv_some h
  refine v_iincN F dX11_countLists_255 (Nat.le_of_ble_eq_true rfl) rfl ex29 (L' := [mA 1545, mU, mU, mU, mI x29]) rfl ?_
  refine v_goto F dX11_countLists_258 rfl ?_
  cases h
  exact K
theorem fX11_countLists_212f_ok {w : Wd} {l : Launch} {G : Cx} {m dd : Dt} {a1 a2 : Int} {d' : Dt} {s : Dt × Int} {x : ((Dt × Int) ⊕ Dt)} (F : Fx w G cX11_countLists RX11 5 none { frames := 6, cells := 0, slots := 0, locals := 140 }) (hX : WF dd m) (hp : PB m 1545 11) (h : fX11_countLists_212f a1 a2 s = some x) (K : (Sum.elim (fX11_countLists_212P w l G (QM w G WF none d' m 0 0) m a1 a2) (fun q => q = d')) x) : V w l WF G (QM w G WF none d' m 0 0) s.1 m 0 0 212 [mA 1545, mU, mU, mU, mI (s.2)] [] := by
  obtain ⟨d, v4⟩ := s
  unfold fX11_countLists_212f at h
  dsimp only at h
  refine v_iload F dX11_countLists_212 rfl ?_
  refine v_aload_n F dX11_countLists_214 rfl rfl ?_
  refine gf_X11_755 F dX11_countLists_215 hp ?_
  refine v_icmp_ge F dX11_countLists_218 rfl (fun hq22 => ?_) (fun hq22 => ?_)
  · rw [if_pos hq22] at h
    obtain ⟨z, hu, ez⟩ := up_some h
    clear h
    subst ez
    have h := hu
    clear hu
    refine v_aload_n F dX11_countLists_261 rfl rfl ?_
    obtain ⟨d23, hc24, h⟩ := bd_some h
    refine v_callV0 (c := 11) F dX11_countLists_262 cv_X11_868 rfl (PB.ob hp hX (Nat.le_of_ble_eq_true rfl)) (Nat.le_of_ble_eq_true rfl) rfl (vm_X11_tell hp hc24) rfl (rOk.of rfl) ?_
    cases h
    cases (show _ = d' from K)
    exact v_vret F dX11_countLists_265
  · rw [if_neg hq22] at h
    refine v_aload_n F dX11_countLists_221 rfl rfl ?_
    refine gf_X11_801 F dX11_countLists_222 hp (v := 1621) rfl ?_
    refine v_iload F dX11_countLists_225 rfl ?_
    refine v_aload_n F dX11_countLists_227 rfl rfl ?_
    refine gf_X11_764 F dX11_countLists_228 hp (v := 1617) rfl ?_
    refine v_iload F dX11_countLists_231 rfl ?_
    obtain ⟨hi25, h⟩ := ck_some h
    refine v_zald F dX11_countLists_233 (ar_X11_101 hX hp) hi25 ?_
    refine v_if_eq F dX11_countLists_234 rfl (fun hq26 => ?_) (fun hq26 => ?_)
    · rw [if_pos hq26] at h
      refine v_lconst0 F dX11_countLists_253 ?_
      exact fX11_countLists_254_ok F hX hp h K
    · rw [if_neg hq26] at h
      refine v_aload_n F dX11_countLists_237 rfl rfl ?_
      refine gf_X11_1066 F dX11_countLists_238 hp (v := 1649) rfl ?_
      refine v_aload_n F dX11_countLists_241 rfl rfl ?_
      refine gf_X11_1069 F dX11_countLists_242 hp (v := 1641) rfl ?_
      refine v_iload F dX11_countLists_245 rfl ?_
      refine v_iald F dX11_countLists_247 (ar_X11_138 hX hp) hi25 ?_
      obtain ⟨x30, ex30, h⟩ := lv_some h
      refine v_nI ex30 ?_
      obtain ⟨hi31, h⟩ := ck_some h
      refine v_iald F dX11_countLists_248 (ar_X11_146 hX hp) hi31 ?_
      refine v_i2l F dX11_countLists_249 ?_
      refine v_goto F dX11_countLists_250 rfl ?_
      exact fX11_countLists_254_ok F hX hp h K
theorem fX11_countLists_212_ok {w : Wd} {l : Launch} {G : Cx} {d m dd : Dt} {a1 a2 v4 : Int} {d' : Dt} {x : Dt} (F : Fx w G cX11_countLists RX11 5 none { frames := 6, cells := 0, slots := 0, locals := 140 }) (hX : WF dd m) (hp : PB m 1545 11) (h : fX11_countLists_212 d a1 a2 v4 = some x) (K : (fun q => q = d') x) : V w l WF G (QM w G WF none d' m 0 0) d m 0 0 212 [mA 1545, mU, mU, mU, mI v4] [] := by
  unfold fX11_countLists_212 at h
  exact loop_ok (P := fX11_countLists_212P w l G (QM w G WF none d' m 0 0) m a1 a2) (fun s x hx h1 h2 => fX11_countLists_212f_ok F hX hp hx (by
    cases x with
    | inl s' => exact h1 s' rfl
    | inr z => cases h2 z rfl; exact K)) h
theorem fX11_countLists_198_ok {w : Wd} {l : Launch} {G : Cx} {d m dd : Dt} {a1 a2 v4 s1 s2 : Int} {d' : Dt} {x : ((Dt × Int) ⊕ Dt)} (F : Fx w G cX11_countLists RX11 5 none { frames := 6, cells := 0, slots := 0, locals := 140 }) (hX : WF dd m) (hp : PB m 1545 11) (h : fX11_countLists_198 d a1 a2 v4 s1 s2 = some x) (K : (Sum.elim (fX11_countLists_156P w l G (QM w G WF none d' m 0 0) m a1 a2) (fun q => q = d')) x) : V w l WF G (QM w G WF none d' m 0 0) d m 0 0 198 [mA 1545, mU, mU, mU, mI v4] [mL s2, mI s1, mA 1621] := by
  unfold fX11_countLists_198 at h
  obtain ⟨hi34, h⟩ := ck_some h
  obtain ⟨d35, ed35, h⟩ := sd_some h
  refine v_last F dX11_countLists_198 (ar_X11_108 hX hp) hi34 ?_
  refine v_nD ed35 ?_
  obtain ⟨x36, ex36, h⟩ := lv_some h
  refine v_iincN F dX11_countLists_199 (Nat.le_of_ble_eq_true rfl) rfl ex36 (L' := [mA 1545, mU, mU, mU, mI x36]) rfl ?_
  refine v_goto F dX11_countLists_202 rfl ?_
  cases h
  exact K
theorem fX11_countLists_156f_ok {w : Wd} {l : Launch} {G : Cx} {m dd : Dt} {a1 a2 : Int} {d' : Dt} {s : Dt × Int} {x : ((Dt × Int) ⊕ Dt)} (F : Fx w G cX11_countLists RX11 5 none { frames := 6, cells := 0, slots := 0, locals := 140 }) (hX : WF dd m) (hp : PB m 1545 11) (h : fX11_countLists_156f a1 a2 s = some x) (K : (Sum.elim (fX11_countLists_156P w l G (QM w G WF none d' m 0 0) m a1 a2) (fun q => q = d')) x) : V w l WF G (QM w G WF none d' m 0 0) s.1 m 0 0 156 [mA 1545, mU, mU, mU, mI (s.2)] [] := by
  obtain ⟨d, v4⟩ := s
  unfold fX11_countLists_156f at h
  dsimp only at h
  refine v_iload F dX11_countLists_156 rfl ?_
  refine v_aload_n F dX11_countLists_158 rfl rfl ?_
  refine gf_X11_755 F dX11_countLists_159 hp ?_
  refine v_icmp_ge F dX11_countLists_162 rfl (fun hq19 => ?_) (fun hq19 => ?_)
  · rw [if_pos hq19] at h
    obtain ⟨z, hu, ez⟩ := up_some h
    clear h
    subst ez
    have h := hu
    clear hu
    refine v_aload_n F dX11_countLists_205 rfl rfl ?_
    obtain ⟨d20, hc21, h⟩ := bd_some h
    refine v_callV0 (c := 11) F dX11_countLists_206 cv_X11_868 rfl (PB.ob hp hX (Nat.le_of_ble_eq_true rfl)) (Nat.le_of_ble_eq_true rfl) rfl (vm_X11_tell hp hc21) rfl (rOk.of rfl) ?_
    refine v_iconst F dX11_countLists_209 ⟨by decide, by decide⟩ ?_
    refine v_istore F dX11_countLists_210 (Nat.le_of_ble_eq_true rfl) (L' := [mA 1545, mU, mU, mU, mI 0]) rfl ?_
    exact fX11_countLists_212_ok F hX hp h K
  · rw [if_neg hq19] at h
    refine v_aload_n F dX11_countLists_165 rfl rfl ?_
    refine gf_X11_801 F dX11_countLists_166 hp (v := 1621) rfl ?_
    refine v_iload F dX11_countLists_169 rfl ?_
    refine v_aload_n F dX11_countLists_171 rfl rfl ?_
    refine gf_X11_764 F dX11_countLists_172 hp (v := 1617) rfl ?_
    refine v_iload F dX11_countLists_175 rfl ?_
    obtain ⟨hi32, h⟩ := ck_some h
    refine v_zald F dX11_countLists_177 (ar_X11_101 hX hp) hi32 ?_
    refine v_if_eq F dX11_countLists_178 rfl (fun hq33 => ?_) (fun hq33 => ?_)
    · rw [if_pos hq33] at h
      refine v_lconst0 F dX11_countLists_197 ?_
      exact fX11_countLists_198_ok F hX hp h K
    · rw [if_neg hq33] at h
      refine v_aload_n F dX11_countLists_181 rfl rfl ?_
      refine gf_X11_1063 F dX11_countLists_182 hp (v := 1643) rfl ?_
      refine v_aload_n F dX11_countLists_185 rfl rfl ?_
      refine gf_X11_1069 F dX11_countLists_186 hp (v := 1641) rfl ?_
      refine v_iload F dX11_countLists_189 rfl ?_
      refine v_iald F dX11_countLists_191 (ar_X11_138 hX hp) hi32 ?_
      obtain ⟨x37, ex37, h⟩ := lv_some h
      refine v_nI ex37 ?_
      obtain ⟨hi38, h⟩ := ck_some h
      refine v_iald F dX11_countLists_192 (ar_X11_140 hX hp) hi38 ?_
      refine v_i2l F dX11_countLists_193 ?_
      refine v_goto F dX11_countLists_194 rfl ?_
      exact fX11_countLists_198_ok F hX hp h K
theorem fX11_countLists_156_ok {w : Wd} {l : Launch} {G : Cx} {d m dd : Dt} {a1 a2 v4 : Int} {d' : Dt} {x : Dt} (F : Fx w G cX11_countLists RX11 5 none { frames := 6, cells := 0, slots := 0, locals := 140 }) (hX : WF dd m) (hp : PB m 1545 11) (h : fX11_countLists_156 d a1 a2 v4 = some x) (K : (fun q => q = d') x) : V w l WF G (QM w G WF none d' m 0 0) d m 0 0 156 [mA 1545, mU, mU, mU, mI v4] [] := by
  unfold fX11_countLists_156 at h
  exact loop_ok (P := fX11_countLists_156P w l G (QM w G WF none d' m 0 0) m a1 a2) (fun s x hx h1 h2 => fX11_countLists_156f_ok F hX hp hx (by
    cases x with
    | inl s' => exact h1 s' rfl
    | inr z => cases h2 z rfl; exact K)) h
theorem fX11_countLists_144_ok {w : Wd} {l : Launch} {G : Cx} {d m dd : Dt} {a1 a2 : Int} {d' : Dt} {x : Dt} (F : Fx w G cX11_countLists RX11 5 none { frames := 6, cells := 0, slots := 0, locals := 140 }) (hX : WF dd m) (hp : PB m 1545 11) (h : fX11_countLists_144 d a1 a2 = some x) (K : (fun q => q = d') x) : V w l WF G (QM w G WF none d' m 0 0) d m 0 0 144 [mA 1545, mU, mU, mU, mU] [] := by
  unfold fX11_countLists_144 at h
  refine v_aload_n F dX11_countLists_144 rfl rfl ?_
  refine v_iconst F dX11_countLists_145 ⟨by decide, by decide⟩ ?_
  obtain ⟨d15, hc16, h⟩ := bd_some h
  refine v_callV0 (c := 11) F dX11_countLists_146 cv_X11_865 rfl (PB.ob hp hX (Nat.le_of_ble_eq_true rfl)) (Nat.le_of_ble_eq_true rfl) rfl (vm_X11_votesByMarks hp hc16) rfl (rOk.of rfl) ?_
  refine v_aload_n F dX11_countLists_149 rfl rfl ?_
  obtain ⟨d17, hc18, h⟩ := bd_some h
  refine v_callV0 (c := 11) F dX11_countLists_150 cv_X11_868 rfl (PB.ob hp hX (Nat.le_of_ble_eq_true rfl)) (Nat.le_of_ble_eq_true rfl) rfl (vm_X11_tell hp hc18) rfl (rOk.of rfl) ?_
  refine v_iconst F dX11_countLists_153 ⟨by decide, by decide⟩ ?_
  refine v_istore F dX11_countLists_154 (Nat.le_of_ble_eq_true rfl) (L' := [mA 1545, mU, mU, mU, mI 0]) rfl ?_
  exact fX11_countLists_156_ok F hX hp h K
theorem fX11_countLists_139_ok {w : Wd} {l : Launch} {G : Cx} {d m dd : Dt} {a1 a2 v3 : Int} {d' : Dt} {x : Dt} (F : Fx w G cX11_countLists RX11 5 none { frames := 6, cells := 0, slots := 0, locals := 140 }) (hX : WF dd m) (hp : PB m 1545 11) (h : fX11_countLists_139 d a1 a2 v3 = some x) (K : (fun q => q = d') x) : V w l WF G (QM w G WF none d' m 0 0) d m 0 0 139 [mA 1545, mU, mU, mI v3, mU] [] := by
  unfold fX11_countLists_139 at h
  refine v_aload_n F dX11_countLists_139 rfl rfl ?_
  refine v_iload_n F dX11_countLists_140 rfl rfl ?_
  obtain ⟨d42, hc43, h⟩ := bd_some h
  refine v_callV0 (c := 11) F dX11_countLists_141 cv_X11_1115 rfl (PB.ob hp hX (Nat.le_of_ble_eq_true rfl)) (Nat.le_of_ble_eq_true rfl) rfl (vm_X11_electLists hp hc43) rfl (rOk.of rfl) ?_
  refine v_fgt (L' := [mA 1545, mU, mU, mU, mU]) ⟨Or.inl rfl, Or.inl rfl, Or.inl rfl, Or.inr rfl, Or.inl rfl, trivial⟩ ?_
  exact fX11_countLists_144_ok F hX hp h K
theorem fX11_countLists_109_ok {w : Wd} {l : Launch} {G : Cx} {d m dd : Dt} {a1 a2 v3 s1 : Int} {d' : Dt} {x : Dt} (F : Fx w G cX11_countLists RX11 5 none { frames := 6, cells := 0, slots := 0, locals := 140 }) (hX : WF dd m) (hp : PB m 1545 11) (h : fX11_countLists_109 d a1 a2 v3 s1 = some x) (K : (fun q => q = d') x) : V w l WF G (QM w G WF none d' m 0 0) d m 0 0 109 [mA 1545, mU, mU, mI v3, mU] [mI s1, mA 1545] := by
  unfold fX11_countLists_109 at h
  obtain ⟨d11, ed11, h⟩ := sd_some h
  refine pf_X11_838 F dX11_countLists_109 hp ?_
  refine v_nD ed11 ?_
  refine v_aload_n F dX11_countLists_112 rfl rfl ?_
  obtain ⟨x12, hc13, h⟩ := b1_some h
  refine v_callVv (c := 11) F dX11_countLists_113 cv_X11_1088 rfl (PB.ob hp hX (Nat.le_of_ble_eq_true rfl)) (Nat.le_of_ble_eq_true rfl) rfl (vm_X11_votesOfAll hp hc13) rfl (rOk.of rfl) ?_
  refine v_if_le F dX11_countLists_116 rfl (fun hq14 => ?_) (fun hq14 => ?_)
  · rw [if_pos hq14] at h
    refine v_fgt (L' := [mA 1545, mU, mU, mU, mU]) ⟨Or.inl rfl, Or.inl rfl, Or.inl rfl, Or.inr rfl, Or.inl rfl, trivial⟩ ?_
    exact fX11_countLists_144_ok F hX hp h K
  · rw [if_neg hq14] at h
    refine v_iload_n F dX11_countLists_119 rfl rfl ?_
    refine v_if_eq F dX11_countLists_120 rfl (fun hq39 => ?_) (fun hq39 => ?_)
    · rw [if_pos hq39] at h
      refine v_aload_n F dX11_countLists_130 rfl rfl ?_
      refine v_aload_n F dX11_countLists_131 rfl rfl ?_
      refine gf_X11_758 F dX11_countLists_132 hp ?_
      refine v_iconst F dX11_countLists_135 ⟨by decide, by decide⟩ ?_
      obtain ⟨d40, hc41, h⟩ := bd_some h
      refine v_callV0 (c := 11) F dX11_countLists_136 cv_X11_1112 rfl (PB.ob hp hX (Nat.le_of_ble_eq_true rfl)) (Nat.le_of_ble_eq_true rfl) rfl (vm_X11_deal hp hc41) rfl (rOk.of rfl) ?_
      exact fX11_countLists_139_ok F hX hp h K
    · rw [if_neg hq39] at h
      refine v_aload_n F dX11_countLists_123 rfl rfl ?_
      obtain ⟨d44, hc45, h⟩ := bd_some h
      refine v_callV0 (c := 11) F dX11_countLists_124 cv_X11_1109 rfl (PB.ob hp hX (Nat.le_of_ble_eq_true rfl)) (Nat.le_of_ble_eq_true rfl) rfl (vm_X11_level hp hc45) rfl (rOk.of rfl) ?_
      refine v_goto F dX11_countLists_127 rfl ?_
      exact fX11_countLists_139_ok F hX hp h K
theorem fX11_countLists_84_ok {w : Wd} {l : Launch} {G : Cx} {d m dd : Dt} {a1 a2 v3 v4 s1 s2 : Int} {d' : Dt} {x : ((Dt × Int) ⊕ Dt)} (F : Fx w G cX11_countLists RX11 5 none { frames := 6, cells := 0, slots := 0, locals := 140 }) (hX : WF dd m) (hp : PB m 1545 11) (h : fX11_countLists_84 d a1 a2 v3 v4 s1 s2 = some x) (K : (Sum.elim (fX11_countLists_39P w l G (QM w G WF none d' m 0 0) m a1 a2 v3) (fun q => q = d')) x) : V w l WF G (QM w G WF none d' m 0 0) d m 0 0 84 [mA 1545, mU, mU, mI v3, mI v4] [mI s2, mI s1, mA 1648] := by
  unfold fX11_countLists_84 at h
  obtain ⟨hi47, h⟩ := ck_some h
  obtain ⟨d48, ed48, h⟩ := sd_some h
  refine v_iast F dX11_countLists_84 (ar_X11_145 hX hp) hi47 ?_
  refine v_nD ed48 ?_
  obtain ⟨x49, ex49, h⟩ := lv_some h
  refine v_iincN F dX11_countLists_85 (Nat.le_of_ble_eq_true rfl) rfl ex49 (L' := [mA 1545, mU, mU, mI v3, mI x49]) rfl ?_
  refine v_goto F dX11_countLists_88 rfl ?_
  cases h
  exact K
theorem fX11_countLists_39f_ok {w : Wd} {l : Launch} {G : Cx} {m dd : Dt} {a1 a2 v3 : Int} {d' : Dt} {s : Dt × Int} {x : ((Dt × Int) ⊕ Dt)} (F : Fx w G cX11_countLists RX11 5 none { frames := 6, cells := 0, slots := 0, locals := 140 }) (hX : WF dd m) (hp : PB m 1545 11) (h : fX11_countLists_39f a1 a2 v3 s = some x) (K : (Sum.elim (fX11_countLists_39P w l G (QM w G WF none d' m 0 0) m a1 a2 v3) (fun q => q = d')) x) : V w l WF G (QM w G WF none d' m 0 0) s.1 m 0 0 39 [mA 1545, mU, mU, mI v3, mI (s.2)] [] := by
  obtain ⟨d, v4⟩ := s
  unfold fX11_countLists_39f at h
  dsimp only at h
  refine v_iload F dX11_countLists_39 rfl ?_
  refine v_aload_n F dX11_countLists_41 rfl rfl ?_
  refine gf_X11_1054 F dX11_countLists_42 hp ?_
  refine v_icmp_ge F dX11_countLists_45 rfl (fun hq9 => ?_) (fun hq9 => ?_)
  · rw [if_pos hq9] at h
    obtain ⟨z, hu, ez⟩ := up_some h
    clear h
    subst ez
    have h := hu
    clear hu
    refine v_aload_n F dX11_countLists_91 rfl rfl ?_
    refine v_iload_n F dX11_countLists_92 rfl rfl ?_
    refine v_if_eq F dX11_countLists_93 rfl (fun hq10 => ?_) (fun hq10 => ?_)
    · rw [if_pos hq10] at h
      refine v_iconst F dX11_countLists_108 ⟨by decide, by decide⟩ ?_
      refine v_fgt (L' := [mA 1545, mU, mU, mI v3, mU]) ⟨Or.inl rfl, Or.inl rfl, Or.inl rfl, Or.inl rfl, Or.inr rfl, trivial⟩ ?_
      exact fX11_countLists_109_ok F hX hp h K
    · rw [if_neg hq10] at h
      refine v_aload_n F dX11_countLists_96 rfl rfl ?_
      refine gf_X11_758 F dX11_countLists_97 hp ?_
      refine v_aload_n F dX11_countLists_100 rfl rfl ?_
      refine gf_X11_1042 F dX11_countLists_101 hp ?_
      refine v_iadd F dX11_countLists_104 ?_
      refine v_goto F dX11_countLists_105 rfl ?_
      refine v_fgt (L' := [mA 1545, mU, mU, mI v3, mU]) ⟨Or.inl rfl, Or.inl rfl, Or.inl rfl, Or.inl rfl, Or.inr rfl, trivial⟩ ?_
      exact fX11_countLists_109_ok F hX hp h K
  · rw [if_neg hq9] at h
    refine v_aload_n F dX11_countLists_48 rfl rfl ?_
    refine gf_X11_1106 F dX11_countLists_49 hp (v := 1648) rfl ?_
    refine v_iload F dX11_countLists_52 rfl ?_
    refine v_iload_n F dX11_countLists_54 rfl rfl ?_
    refine v_if_eq F dX11_countLists_55 rfl (fun hq46 => ?_) (fun hq46 => ?_)
    · rw [if_pos hq46] at h
      refine v_iconst F dX11_countLists_83 ⟨by decide, by decide⟩ ?_
      exact fX11_countLists_84_ok F hX hp h K
    · rw [if_neg hq46] at h
      refine v_aload_n F dX11_countLists_58 rfl rfl ?_
      refine gf_X11_1057 F dX11_countLists_59 hp (v := 1642) rfl ?_
      refine v_iload F dX11_countLists_62 rfl ?_
      obtain ⟨hi50, h⟩ := ck_some h
      refine v_iald F dX11_countLists_64 (ar_X11_139 hX hp) hi50 ?_
      refine v_if_lt F dX11_countLists_65 rfl (fun hq51 => ?_) (fun hq51 => ?_)
      · rw [if_pos hq51] at h
        refine v_iconst F dX11_countLists_83 ⟨by decide, by decide⟩ ?_
        exact fX11_countLists_84_ok F hX hp h K
      · rw [if_neg hq51] at h
        refine v_aload_n F dX11_countLists_68 rfl rfl ?_
        refine gf_X11_1045 F dX11_countLists_69 hp (v := 1651) rfl ?_
        refine v_aload_n F dX11_countLists_72 rfl rfl ?_
        refine gf_X11_1057 F dX11_countLists_73 hp (v := 1642) rfl ?_
        refine v_iload F dX11_countLists_76 rfl ?_
        refine v_iald F dX11_countLists_78 (ar_X11_139 hX hp) hi50 ?_
        obtain ⟨x52, ex52, h⟩ := lv_some h
        refine v_nI ex52 ?_
        obtain ⟨hi53, h⟩ := ck_some h
        refine v_iald F dX11_countLists_79 (ar_X11_149 hX hp) hi53 ?_
        refine v_goto F dX11_countLists_80 rfl ?_
        exact fX11_countLists_84_ok F hX hp h K
theorem fX11_countLists_39_ok {w : Wd} {l : Launch} {G : Cx} {d m dd : Dt} {a1 a2 v3 v4 : Int} {d' : Dt} {x : Dt} (F : Fx w G cX11_countLists RX11 5 none { frames := 6, cells := 0, slots := 0, locals := 140 }) (hX : WF dd m) (hp : PB m 1545 11) (h : fX11_countLists_39 d a1 a2 v3 v4 = some x) (K : (fun q => q = d') x) : V w l WF G (QM w G WF none d' m 0 0) d m 0 0 39 [mA 1545, mU, mU, mI v3, mI v4] [] := by
  unfold fX11_countLists_39 at h
  exact loop_ok (P := fX11_countLists_39P w l G (QM w G WF none d' m 0 0) m a1 a2 v3) (fun s x hx h1 h2 => fX11_countLists_39f_ok F hX hp hx (by
    cases x with
    | inl s' => exact h1 s' rfl
    | inr z => cases h2 z rfl; exact K)) h
theorem fX11_countLists_26_ok {w : Wd} {l : Launch} {G : Cx} {d m dd : Dt} {a1 a2 v3 : Int} {d' : Dt} {x : Dt} (F : Fx w G cX11_countLists RX11 5 none { frames := 6, cells := 0, slots := 0, locals := 140 }) (hX : WF dd m) (hp : PB m 1545 11) (h : fX11_countLists_26 d a1 a2 v3 = some x) (K : (fun q => q = d') x) : V w l WF G (QM w G WF none d' m 0 0) d m 0 0 26 [mA 1545, mI a1, mI a2, mI v3, mU] [] := by
  unfold fX11_countLists_26 at h
  refine v_aload_n F dX11_countLists_26 rfl rfl ?_
  refine v_iload_n F dX11_countLists_27 rfl rfl ?_
  refine v_iload_n F dX11_countLists_28 rfl rfl ?_
  obtain ⟨d5, hc6, h⟩ := bd_some h
  refine v_callV0 (c := 11) F dX11_countLists_29 cv_X11_844 rfl (PB.ob hp hX (Nat.le_of_ble_eq_true rfl)) (Nat.le_of_ble_eq_true rfl) rfl (vm_X11_gather hp hc6) rfl (rOk.of rfl) ?_
  refine v_aload_n F dX11_countLists_32 rfl rfl ?_
  obtain ⟨d7, hc8, h⟩ := bd_some h
  refine v_callV0 (c := 11) F dX11_countLists_33 cv_X11_1103 rfl (PB.ob hp hX (Nat.le_of_ble_eq_true rfl)) (Nat.le_of_ble_eq_true rfl) rfl (vm_X11_makeLists hp hc8) rfl (rOk.of rfl) ?_
  refine v_iconst F dX11_countLists_36 ⟨by decide, by decide⟩ ?_
  refine v_istore F dX11_countLists_37 (Nat.le_of_ble_eq_true rfl) (L' := [mA 1545, mI a1, mI a2, mI v3, mI 0]) rfl ?_
  refine v_fgt (L' := [mA 1545, mU, mU, mI v3, mI 0]) ⟨Or.inl rfl, Or.inr rfl, Or.inr rfl, Or.inl rfl, Or.inl rfl, trivial⟩ ?_
  exact fX11_countLists_39_ok F hX hp h K
theorem fX11_countLists_16_ok {w : Wd} {l : Launch} {G : Cx} {d m dd : Dt} {a1 a2 s0 : Int} {d' : Dt} {x : Dt} (F : Fx w G cX11_countLists RX11 5 none { frames := 6, cells := 0, slots := 0, locals := 140 }) (hX : WF dd m) (hp : PB m 1545 11) (h : fX11_countLists_16 d a1 a2 s0 = some x) (K : (fun q => q = d') x) : V w l WF G (QM w G WF none d' m 0 0) d m 0 0 16 [mA 1545, mI a1, mI a2, mU, mU] [mI s0] := by
  unfold fX11_countLists_16 at h
  refine v_istore_n F dX11_countLists_16 rfl (Nat.le_of_ble_eq_true rfl) (L' := [mA 1545, mI a1, mI a2, mI s0, mU]) rfl ?_
  refine v_iload_n F dX11_countLists_17 rfl rfl ?_
  refine v_if_eq F dX11_countLists_18 rfl (fun hq4 => ?_) (fun hq4 => ?_)
  · rw [if_pos hq4] at h
    exact fX11_countLists_26_ok F hX hp h K
  · rw [if_neg hq4] at h
    refine v_aload_n F dX11_countLists_21 rfl rfl ?_
    refine v_iload_n F dX11_countLists_22 rfl rfl ?_
    obtain ⟨d54, hc55, h⟩ := bd_some h
    refine v_callV0 (c := 11) F dX11_countLists_23 cv_X11_1100 rfl (PB.ob hp hX (Nat.le_of_ble_eq_true rfl)) (Nat.le_of_ble_eq_true rfl) rfl (vm_X11_countFirsts hp hc55) rfl (rOk.of rfl) ?_
    exact fX11_countLists_26_ok F hX hp h K
theorem vm_X11_countLists {w : Wd} {l : Launch} {d m : Dt} {a1 a2 : Int} {d' : Dt} (hp : PB m 1545 11) (h : fX11_countLists d a1 a2 = some d') : VM w l WF yX11_countLists cX11_countLists 5 none 6 140 0 0 d m [mA 1545, mI a1, mI a2] none d' m := by
  obtain ⟨x, h, K⟩ : ∃ x, fX11_countLists d a1 a2 = some x ∧ x = d' := ⟨_, h, rfl⟩
  refine VM.of (L := [mA 1545, mI a1, mI a2, mU, mU]) (by decide +kernel) rfl (Nat.le_of_ble_eq_true rfl) fun G F _ => v_fact fun _ hX _ _ => ?_
  unfold fX11_countLists at h
  refine v_aload_n F dX11_countLists_0 rfl rfl ?_
  refine v_iload_n F dX11_countLists_1 rfl rfl ?_
  refine v_bipush F dX11_countLists_2 rfl ⟨by decide, by decide⟩ ?_
  obtain ⟨x1, hc2, h⟩ := b1_some h
  refine v_callVv (c := 11) F dX11_countLists_4 cv_X11_485 rfl (PB.ob hp hX (Nat.le_of_ble_eq_true rfl)) (Nat.le_of_ble_eq_true rfl) rfl (vm_X11_contestIs hp hc2) rfl (rOk.of rfl) ?_
  refine v_iconst F dX11_countLists_7 ⟨by decide, by decide⟩ ?_
  refine v_icmp_ne F dX11_countLists_8 rfl (fun hq3 => ?_) (fun hq3 => ?_)
  · rw [if_neg hq3] at h
    refine v_iconst F dX11_countLists_15 ⟨by decide, by decide⟩ ?_
    exact fX11_countLists_16_ok F hX hp h K
  · rw [if_pos hq3] at h
    refine v_iconst F dX11_countLists_11 ⟨by decide, by decide⟩ ?_
    refine v_goto F dX11_countLists_12 rfl ?_
    exact fX11_countLists_16_ok F hX hp h K
def fX11_votesByRanks_6P (w : Wd) (l : Launch) (G : Cx) (Q : State → Prop) (m : Dt) (s : Dt × Int) : Prop := V w l WF G Q s.1 m 0 0 6 [mA 1545, mI (s.2), mU] []
def fX11_votesByRanks_16P (w : Wd) (l : Launch) (G : Cx) (Q : State → Prop) (m : Dt) (v1 : Int) (s : Dt × Int) : Prop := V w l WF G Q s.1 m 0 0 16 [mA 1545, mI v1, mI (s.2)] []
theorem fX11_votesByRanks_16f_ok {w : Wd} {l : Launch} {G : Cx} {m dd : Dt} {v1 : Int} {d' : Dt} {s : Dt × Int} {x : ((Dt × Int) ⊕ ((Dt × Int) ⊕ Dt))} (F : Fx w G cX11_votesByRanks RX11 3 none { frames := 1, cells := 0, slots := 0, locals := 21 }) (hX : WF dd m) (hp : PB m 1545 11) (h : fX11_votesByRanks_16f v1 s = some x) (K : (Sum.elim (fX11_votesByRanks_16P w l G (QM w G WF none d' m 0 0) m v1) (Sum.elim (fX11_votesByRanks_6P w l G (QM w G WF none d' m 0 0) m) (fun q => q = d'))) x) : V w l WF G (QM w G WF none d' m 0 0) s.1 m 0 0 16 [mA 1545, mI v1, mI (s.2)] [] := by
  obtain ⟨d, v2⟩ := s
  unfold fX11_votesByRanks_16f at h
  dsimp only at h
  refine v_iload_n F dX11_votesByRanks_16 rfl rfl ?_
  refine v_aload_n F dX11_votesByRanks_17 rfl rfl ?_
  refine gf_X11_789 F dX11_votesByRanks_18 hp (v := 1620) rfl ?_
  refine v_iload_n F dX11_votesByRanks_21 rfl rfl ?_
  obtain ⟨hi4, h⟩ := ck_some h
  refine v_iald F dX11_votesByRanks_22 (ar_X11_107 hX hp) hi4 ?_
  refine v_icmp_ge F dX11_votesByRanks_23 rfl (fun hq5 => ?_) (fun hq5 => ?_)
  · rw [if_pos hq5] at h
    obtain ⟨z, hu, ez⟩ := up_some h
    clear h
    subst ez
    have h := hu
    clear hu
    obtain ⟨x6, ex6, h⟩ := lv_some h
    refine v_iincN F dX11_votesByRanks_60 (Nat.le_of_ble_eq_true rfl) rfl ex6 (L' := [mA 1545, mI x6, mI v2]) rfl ?_
    refine v_goto F dX11_votesByRanks_63 rfl ?_
    cases h
    refine v_fgt (L' := [mA 1545, mI x6, mU]) ⟨Or.inl rfl, Or.inl rfl, Or.inr rfl, trivial⟩ ?_
    exact K
  · rw [if_neg hq5] at h
    refine v_aload_n F dX11_votesByRanks_26 rfl rfl ?_
    refine gf_X11_801 F dX11_votesByRanks_27 hp (v := 1621) rfl ?_
    refine v_aload_n F dX11_votesByRanks_30 rfl rfl ?_
    refine gf_X11_792 F dX11_votesByRanks_31 hp (v := 1619) rfl ?_
    refine v_bipush F dX11_votesByRanks_34 rfl ⟨by decide, by decide⟩ ?_
    refine v_iload_n F dX11_votesByRanks_36 rfl rfl ?_
    refine v_imul F dX11_votesByRanks_37 ?_
    refine v_iload_n F dX11_votesByRanks_38 rfl rfl ?_
    refine v_iadd F dX11_votesByRanks_39 ?_
    obtain ⟨x7, ex7, h⟩ := lv_some h
    refine v_nI ex7 ?_
    obtain ⟨hi8, h⟩ := ck_some h
    refine v_iald F dX11_votesByRanks_40 (ar_X11_106 hX hp) hi8 ?_
    obtain ⟨x9, ex9, h⟩ := lv_some h
    refine v_nI ex9 ?_
    refine v_dup2_IA F dX11_votesByRanks_41 ?_
    obtain ⟨hi10, h⟩ := ck_some h
    refine v_lald F dX11_votesByRanks_42 (ar_X11_108 hX hp) hi10 ?_
    refine v_aload_n F dX11_votesByRanks_43 rfl rfl ?_
    refine gf_X11_761 F dX11_votesByRanks_44 hp ?_
    refine v_iconst F dX11_votesByRanks_47 ⟨by decide, by decide⟩ ?_
    refine v_isub F dX11_votesByRanks_48 ?_
    refine v_iload_n F dX11_votesByRanks_49 rfl rfl ?_
    refine v_isub F dX11_votesByRanks_50 ?_
    refine v_i2l F dX11_votesByRanks_51 ?_
    refine v_ladd F dX11_votesByRanks_52 ?_
    obtain ⟨d11, ed11, h⟩ := sd_some h
    refine v_last F dX11_votesByRanks_53 (ar_X11_108 hX hp) hi10 ?_
    refine v_nD ed11 ?_
    obtain ⟨x12, ex12, h⟩ := lv_some h
    refine v_iincN F dX11_votesByRanks_54 (Nat.le_of_ble_eq_true rfl) rfl ex12 (L' := [mA 1545, mI v1, mI x12]) rfl ?_
    refine v_goto F dX11_votesByRanks_57 rfl ?_
    cases h
    exact K
theorem fX11_votesByRanks_16_ok {w : Wd} {l : Launch} {G : Cx} {d m dd : Dt} {v1 v2 : Int} {d' : Dt} {x : ((Dt × Int) ⊕ Dt)} (F : Fx w G cX11_votesByRanks RX11 3 none { frames := 1, cells := 0, slots := 0, locals := 21 }) (hX : WF dd m) (hp : PB m 1545 11) (h : fX11_votesByRanks_16 d v1 v2 = some x) (K : (Sum.elim (fX11_votesByRanks_6P w l G (QM w G WF none d' m 0 0) m) (fun q => q = d')) x) : V w l WF G (QM w G WF none d' m 0 0) d m 0 0 16 [mA 1545, mI v1, mI v2] [] := by
  unfold fX11_votesByRanks_16 at h
  exact loop_ok (P := fX11_votesByRanks_16P w l G (QM w G WF none d' m 0 0) m v1) (fun s x hx h1 h2 => fX11_votesByRanks_16f_ok F hX hp hx (by
    cases x with
    | inl s' => exact h1 s' rfl
    | inr z => cases h2 z rfl; exact K)) h
theorem fX11_votesByRanks_6f_ok {w : Wd} {l : Launch} {G : Cx} {m dd : Dt} {d' : Dt} {s : Dt × Int} {x : ((Dt × Int) ⊕ Dt)} (F : Fx w G cX11_votesByRanks RX11 3 none { frames := 1, cells := 0, slots := 0, locals := 21 }) (hX : WF dd m) (hp : PB m 1545 11) (h : fX11_votesByRanks_6f s = some x) (K : (Sum.elim (fX11_votesByRanks_6P w l G (QM w G WF none d' m 0 0) m) (fun q => q = d')) x) : V w l WF G (QM w G WF none d' m 0 0) s.1 m 0 0 6 [mA 1545, mI (s.2), mU] [] := by
  obtain ⟨d, v1⟩ := s
  unfold fX11_votesByRanks_6f at h
  dsimp only at h
  refine v_iload_n F dX11_votesByRanks_6 rfl rfl ?_
  refine v_aload_n F dX11_votesByRanks_7 rfl rfl ?_
  refine gf_X11_767 F dX11_votesByRanks_8 hp ?_
  refine v_icmp_ge F dX11_votesByRanks_11 rfl (fun hq3 => ?_) (fun hq3 => ?_)
  · rw [if_pos hq3] at h
    obtain ⟨z, hu, ez⟩ := up_some h
    clear h
    subst ez
    have h := hu
    clear hu
    cases h
    cases (show _ = d' from K)
    exact v_vret F dX11_votesByRanks_66
  · rw [if_neg hq3] at h
    refine v_iconst F dX11_votesByRanks_14 ⟨by decide, by decide⟩ ?_
    refine v_istore_n F dX11_votesByRanks_15 rfl (Nat.le_of_ble_eq_true rfl) (L' := [mA 1545, mI v1, mI 0]) rfl ?_
    exact fX11_votesByRanks_16_ok F hX hp h K
theorem fX11_votesByRanks_6_ok {w : Wd} {l : Launch} {G : Cx} {d m dd : Dt} {v1 : Int} {d' : Dt} {x : Dt} (F : Fx w G cX11_votesByRanks RX11 3 none { frames := 1, cells := 0, slots := 0, locals := 21 }) (hX : WF dd m) (hp : PB m 1545 11) (h : fX11_votesByRanks_6 d v1 = some x) (K : (fun q => q = d') x) : V w l WF G (QM w G WF none d' m 0 0) d m 0 0 6 [mA 1545, mI v1, mU] [] := by
  unfold fX11_votesByRanks_6 at h
  exact loop_ok (P := fX11_votesByRanks_6P w l G (QM w G WF none d' m 0 0) m) (fun s x hx h1 h2 => fX11_votesByRanks_6f_ok F hX hp hx (by
    cases x with
    | inl s' => exact h1 s' rfl
    | inr z => cases h2 z rfl; exact K)) h
theorem vm_X11_votesByRanks {w : Wd} {l : Launch} {d m : Dt} {d' : Dt} (hp : PB m 1545 11) (h : fX11_votesByRanks d = some d') : VM w l WF yX11_votesByRanks cX11_votesByRanks 3 none 1 21 0 0 d m [mA 1545] none d' m := by
  obtain ⟨x, h, K⟩ : ∃ x, fX11_votesByRanks d = some x ∧ x = d' := ⟨_, h, rfl⟩
  refine VM.of (L := [mA 1545, mU, mU]) (by decide +kernel) rfl (Nat.le_of_ble_eq_true rfl) fun G F _ => v_fact fun _ hX _ _ => ?_
  unfold fX11_votesByRanks at h
  refine v_aload_n F dX11_votesByRanks_0 rfl rfl ?_
  obtain ⟨d1, hc2, h⟩ := bd_some h
  refine v_callV0 (c := 11) F dX11_votesByRanks_1 cv_X11_811 rfl (PB.ob hp hX (Nat.le_of_ble_eq_true rfl)) (Nat.le_of_ble_eq_true rfl) rfl (vm_X11_noVotes hp hc2) rfl (rOk.of rfl) ?_
  refine v_iconst F dX11_votesByRanks_4 ⟨by decide, by decide⟩ ?_
  refine v_istore_n F dX11_votesByRanks_5 rfl (Nat.le_of_ble_eq_true rfl) (L' := [mA 1545, mI 0, mU]) rfl ?_
  exact fX11_votesByRanks_6_ok F hX hp h K
def fX11_winFirst_2P (w : Wd) (l : Launch) (G : Cx) (Q : State → Prop) (m : Dt) (s : Dt × Int) : Prop := V w l WF G Q s.1 m 0 0 2 [mA 1545, mI (s.2)] []
theorem fX11_winFirst_2f_ok {w : Wd} {l : Launch} {G : Cx} {m dd : Dt} {d' : Dt} {s : Dt × Int} {x : ((Dt × Int) ⊕ Dt)} (F : Fx w G cX11_winFirst RX11 2 none { frames := 1, cells := 0, slots := 0, locals := 21 }) (hX : WF dd m) (hp : PB m 1545 11) (h : fX11_winFirst_2f s = some x) (K : (Sum.elim (fX11_winFirst_2P w l G (QM w G WF none d' m 0 0) m) (fun q => q = d')) x) : V w l WF G (QM w G WF none d' m 0 0) s.1 m 0 0 2 [mA 1545, mI (s.2)] [] := by
  obtain ⟨d, v1⟩ := s
  unfold fX11_winFirst_2f at h
  dsimp only at h
  refine v_iload_n F dX11_winFirst_2 rfl rfl ?_
  refine v_aload_n F dX11_winFirst_3 rfl rfl ?_
  refine gf_X11_758 F dX11_winFirst_4 hp ?_
  refine v_icmp_ge F dX11_winFirst_7 rfl (fun hq1 => ?_) (fun hq1 => ?_)
  · rw [if_pos hq1] at h
    obtain ⟨z, hu, ez⟩ := up_some h
    clear h
    subst ez
    have h := hu
    clear hu
    cases h
    cases (show _ = d' from K)
    exact v_vret F dX11_winFirst_26
  · rw [if_neg hq1] at h
    refine v_aload_n F dX11_winFirst_10 rfl rfl ?_
    refine v_aload_n F dX11_winFirst_11 rfl rfl ?_
    refine gf_X11_805 F dX11_winFirst_12 hp (v := 1622) rfl ?_
    refine v_iload_n F dX11_winFirst_15 rfl rfl ?_
    obtain ⟨hi2, h⟩ := ck_some h
    refine v_iald F dX11_winFirst_16 (ar_X11_109 hX hp) hi2 ?_
    obtain ⟨d3, hc4, h⟩ := bd_some h
    refine v_callV0 (c := 11) F dX11_winFirst_17 cv_X11_832 rfl (PB.ob hp hX (Nat.le_of_ble_eq_true rfl)) (Nat.le_of_ble_eq_true rfl) rfl (vm_X11_win hp hc4) rfl (rOk.of rfl) ?_
    obtain ⟨x5, ex5, h⟩ := lv_some h
    refine v_iincN F dX11_winFirst_20 (Nat.le_of_ble_eq_true rfl) rfl ex5 (L' := [mA 1545, mI x5]) rfl ?_
    refine v_goto F dX11_winFirst_23 rfl ?_
    cases h
    exact K
theorem fX11_winFirst_2_ok {w : Wd} {l : Launch} {G : Cx} {d m dd : Dt} {v1 : Int} {d' : Dt} {x : Dt} (F : Fx w G cX11_winFirst RX11 2 none { frames := 1, cells := 0, slots := 0, locals := 21 }) (hX : WF dd m) (hp : PB m 1545 11) (h : fX11_winFirst_2 d v1 = some x) (K : (fun q => q = d') x) : V w l WF G (QM w G WF none d' m 0 0) d m 0 0 2 [mA 1545, mI v1] [] := by
  unfold fX11_winFirst_2 at h
  exact loop_ok (P := fX11_winFirst_2P w l G (QM w G WF none d' m 0 0) m) (fun s x hx h1 h2 => fX11_winFirst_2f_ok F hX hp hx (by
    cases x with
    | inl s' => exact h1 s' rfl
    | inr z => cases h2 z rfl; exact K)) h
theorem vm_X11_winFirst {w : Wd} {l : Launch} {d m : Dt} {d' : Dt} (hp : PB m 1545 11) (h : fX11_winFirst d = some d') : VM w l WF yX11_winFirst cX11_winFirst 2 none 1 21 0 0 d m [mA 1545] none d' m := by
  obtain ⟨x, h, K⟩ : ∃ x, fX11_winFirst d = some x ∧ x = d' := ⟨_, h, rfl⟩
  refine VM.of (L := [mA 1545, mU]) (by decide +kernel) rfl (Nat.le_of_ble_eq_true rfl) fun G F _ => v_fact fun _ hX _ _ => ?_
  unfold fX11_winFirst at h
  refine v_iconst F dX11_winFirst_0 ⟨by decide, by decide⟩ ?_
  refine v_istore_n F dX11_winFirst_1 rfl (Nat.le_of_ble_eq_true rfl) (L' := [mA 1545, mI 0]) rfl ?_
  exact fX11_winFirst_2_ok F hX hp h K
def fX11_medianOf_7P (w : Wd) (l : Launch) (G : Cx) (Q : State → Prop) (m : Dt) (d : Dt) (a1 a2 : Int) (s : Int × Int) : Prop := V w l WF G Q d m 0 0 7 [mA a1, mU, mI (s.1), mI (s.2)] []
theorem fX11_medianOf_7f_ok {w : Wd} {l : Launch} {G : Cx} {d m dd : Dt} {a1 a2 : Int} {r : Int} {s : Int × Int} {x : ((Int × Int) ⊕ Int)} (F : Fx w G cX11_medianOf RX11 4 (some .int) { frames := 0, cells := 0, slots := 0, locals := 0 }) (hX : WF dd m) (hp1 : AR m a1 101 10) (h : fX11_medianOf_7f d a1 a2 s = some x) (K : (Sum.elim (fX11_medianOf_7P w l G (QM w G WF (some (mI r)) d m 0 0) m d a1 a2) (fun q => q = r)) x) : V w l WF G (QM w G WF (some (mI r)) d m 0 0) d m 0 0 7 [mA a1, mU, mI (s.1), mI (s.2)] [] := by
  obtain ⟨v2, v3⟩ := s
  unfold fX11_medianOf_7f at h
  dsimp only at h
  refine v_iload_n F dX11_medianOf_7 rfl rfl ?_
  refine v_if_le F dX11_medianOf_8 rfl (fun hq2 => ?_) (fun hq2 => ?_)
  · rw [if_pos hq2] at h
    obtain ⟨z, hu, ez⟩ := up_some h
    clear h
    subst ez
    have h := hu
    clear hu
    refine v_iconst F dX11_medianOf_32 ⟨by decide, by decide⟩ ?_
    cases h
    cases (show _ = r from K)
    exact v_iret F dX11_medianOf_33
  · rw [if_neg hq2] at h
    refine v_iload_n F dX11_medianOf_11 rfl rfl ?_
    refine v_aload_n F dX11_medianOf_12 rfl rfl ?_
    refine v_iload_n F dX11_medianOf_13 rfl rfl ?_
    obtain ⟨hi3, h⟩ := ck_some h
    refine v_iald F dX11_medianOf_14 hp1 hi3 ?_
    refine v_icmp_ge F dX11_medianOf_15 rfl (fun hq4 => ?_) (fun hq4 => ?_)
    · rw [if_pos hq4] at h
      refine v_iload_n F dX11_medianOf_20 rfl rfl ?_
      refine v_aload_n F dX11_medianOf_21 rfl rfl ?_
      refine v_iload_n F dX11_medianOf_22 rfl rfl ?_
      refine v_iald F dX11_medianOf_23 hp1 hi3 ?_
      refine v_isub F dX11_medianOf_24 ?_
      obtain ⟨x5, ex5, h⟩ := lv_some h
      refine v_nI ex5 ?_
      refine v_istore_n F dX11_medianOf_25 rfl (Nat.le_of_ble_eq_true rfl) (L' := [mA a1, mU, mI x5, mI v3]) rfl ?_
      obtain ⟨x6, ex6, h⟩ := lv_some h
      refine v_iincN F dX11_medianOf_26 (Nat.le_of_ble_eq_true rfl) rfl ex6 (L' := [mA a1, mU, mI x5, mI x6]) rfl ?_
      refine v_goto F dX11_medianOf_29 rfl ?_
      cases h
      exact K
    · rw [if_neg hq4] at h
      obtain ⟨z, hu, ez⟩ := up_some h
      clear h
      subst ez
      have h := hu
      clear hu
      refine v_iload_n F dX11_medianOf_18 rfl rfl ?_
      cases h
      cases (show _ = r from K)
      exact v_iret F dX11_medianOf_19
theorem fX11_medianOf_7_ok {w : Wd} {l : Launch} {G : Cx} {d m dd : Dt} {a1 a2 v2 v3 : Int} {r : Int} {x : Int} (F : Fx w G cX11_medianOf RX11 4 (some .int) { frames := 0, cells := 0, slots := 0, locals := 0 }) (hX : WF dd m) (hp1 : AR m a1 101 10) (h : fX11_medianOf_7 d a1 a2 v2 v3 = some x) (K : (fun q => q = r) x) : V w l WF G (QM w G WF (some (mI r)) d m 0 0) d m 0 0 7 [mA a1, mU, mI v2, mI v3] [] := by
  unfold fX11_medianOf_7 at h
  exact loop_ok (P := fX11_medianOf_7P w l G (QM w G WF (some (mI r)) d m 0 0) m d a1 a2) (fun s x hx h1 h2 => fX11_medianOf_7f_ok F hX hp1 hx (by
    cases x with
    | inl s' => exact h1 s' rfl
    | inr z => cases h2 z rfl; exact K)) h
theorem vm_X11_medianOf {w : Wd} {l : Launch} {d m : Dt} {a1 a2 : Int} {r : Int} (hp1 : AR m a1 101 10) (h : fX11_medianOf d a1 a2 = some r) : VM w l WF yX11_medianOf cX11_medianOf 4 (some .int) 0 0 0 0 d m [mA a1, mI a2] (some (mI r)) d m := by
  obtain ⟨x, h, K⟩ : ∃ x, fX11_medianOf d a1 a2 = some x ∧ x = r := ⟨_, h, rfl⟩
  refine VM.of (L := [mA a1, mI a2, mU, mU]) (by decide +kernel) rfl (Nat.le_of_ble_eq_true rfl) fun G F _ => v_fact fun _ hX _ _ => ?_
  unfold fX11_medianOf at h
  refine v_iload_n F dX11_medianOf_0 rfl rfl ?_
  refine v_iconst F dX11_medianOf_1 ⟨by decide, by decide⟩ ?_
  refine v_idiv F dX11_medianOf_2 (by decide) ?_
  obtain ⟨x1, ex1, h⟩ := lv_some h
  refine v_nI ex1 ?_
  refine v_istore_n F dX11_medianOf_3 rfl (Nat.le_of_ble_eq_true rfl) (L' := [mA a1, mI a2, mI x1, mU]) rfl ?_
  refine v_bipush F dX11_medianOf_4 rfl ⟨by decide, by decide⟩ ?_
  refine v_istore_n F dX11_medianOf_6 rfl (Nat.le_of_ble_eq_true rfl) (L' := [mA a1, mI a2, mI x1, mI 9]) rfl ?_
  refine v_fgt (L' := [mA a1, mU, mI x1, mI 9]) ⟨Or.inl rfl, Or.inr rfl, Or.inl rfl, Or.inl rfl, trivial⟩ ?_
  exact fX11_medianOf_7_ok F hX hp1 h K
def fX11_isMedianAhead_2P (w : Wd) (l : Launch) (G : Cx) (Q : State → Prop) (m : Dt) (a1 a2 : Int) (s : Dt × Int) : Prop := V w l WF G Q s.1 m 0 0 2 [mA 1545, mI a1, mI a2, mI (s.2), mU, mU] []
def fX11_isMedianAhead_53P (w : Wd) (l : Launch) (G : Cx) (Q : State → Prop) (m : Dt) (a1 a2 : Int) (s : Dt × Int) : Prop := V w l WF G Q s.1 m 0 0 53 [mA 1545, mI a1, mI a2, mI (s.2), mU, mU] []
theorem fX11_isMedianAhead_53f_ok {w : Wd} {l : Launch} {G : Cx} {m dd : Dt} {a1 a2 : Int} {d' : Dt} {r : Int} {s : Dt × Int} {x : ((Dt × Int) ⊕ (Dt × Int))} (F : Fx w G cX11_isMedianAhead RX11 6 (some .boolean) { frames := 1, cells := 0, slots := 0, locals := 23 }) (hX : WF dd m) (hp : PB m 1545 11) (h : fX11_isMedianAhead_53f a1 a2 s = some x) (K : (Sum.elim (fX11_isMedianAhead_53P w l G (QM w G WF (some (mI r)) d' m 0 0) m a1 a2) (fun q => q = (d', r))) x) : V w l WF G (QM w G WF (some (mI r)) d' m 0 0) s.1 m 0 0 53 [mA 1545, mI a1, mI a2, mI (s.2), mU, mU] [] := by
  obtain ⟨d, v3⟩ := s
  unfold fX11_isMedianAhead_53f at h
  dsimp only at h
  refine v_iload_n F dX11_isMedianAhead_53 rfl rfl ?_
  refine v_if_le F dX11_isMedianAhead_54 rfl (fun hq3 => ?_) (fun hq3 => ?_)
  · rw [if_pos hq3] at h
    obtain ⟨z, hu, ez⟩ := up_some h
    clear h
    subst ez
    have h := hu
    clear hu
    refine v_aload_n F dX11_isMedianAhead_125 rfl rfl ?_
    refine v_iload_n F dX11_isMedianAhead_126 rfl rfl ?_
    obtain ⟨x4, hc5, h⟩ := b1_some h
    refine v_callVv (c := 11) F dX11_isMedianAhead_127 cv_X11_808 rfl (PB.ob hp hX (Nat.le_of_ble_eq_true rfl)) (Nat.le_of_ble_eq_true rfl) rfl (vm_X11_lot hp hc5) rfl (rOk.of rfl) ?_
    refine v_aload_n F dX11_isMedianAhead_130 rfl rfl ?_
    refine v_iload_n F dX11_isMedianAhead_131 rfl rfl ?_
    obtain ⟨x6, hc7, h⟩ := b1_some h
    refine v_callVv (c := 11) F dX11_isMedianAhead_132 cv_X11_808 rfl (PB.ob hp hX (Nat.le_of_ble_eq_true rfl)) (Nat.le_of_ble_eq_true rfl) rfl (vm_X11_lot hp hc7) rfl (rOk.of rfl) ?_
    refine v_icmp_ge F dX11_isMedianAhead_135 rfl (fun hq8 => ?_) (fun hq8 => ?_)
    · rw [if_pos hq8] at h
      refine v_iconst F dX11_isMedianAhead_142 ⟨by decide, by decide⟩ ?_
      cases h
      cases (show _ = (d', r) from K)
      exact v_zret F (Or.inl rfl) dX11_isMedianAhead_143
    · rw [if_neg hq8] at h
      refine v_iconst F dX11_isMedianAhead_138 ⟨by decide, by decide⟩ ?_
      refine v_goto F dX11_isMedianAhead_139 rfl ?_
      cases h
      cases (show _ = (d', r) from K)
      exact v_zret F (Or.inr rfl) dX11_isMedianAhead_143
  · rw [if_neg hq3] at h
    refine v_aload_n F dX11_isMedianAhead_57 rfl rfl ?_
    refine gf_X11_893 F dX11_isMedianAhead_58 hp (v := 1628) rfl ?_
    refine v_iload_n F dX11_isMedianAhead_61 rfl rfl ?_
    obtain ⟨x9, hc10, h⟩ := b1_some h
    refine v_callSv F dX11_isMedianAhead_62 cs_X11_902 rfl (vm_X11_medianOf (ar_X11_124 hX hp) hc10) rfl (rOk.of rfl) ?_
    refine v_istore F dX11_isMedianAhead_65 (Nat.le_of_ble_eq_true rfl) (L' := [mA 1545, mI a1, mI a2, mI v3, mI x9, mU]) rfl ?_
    refine v_aload_n F dX11_isMedianAhead_67 rfl rfl ?_
    refine gf_X11_899 F dX11_isMedianAhead_68 hp (v := 1629) rfl ?_
    refine v_iload_n F dX11_isMedianAhead_71 rfl rfl ?_
    obtain ⟨x11, hc12, h⟩ := b1_some h
    refine v_callSv F dX11_isMedianAhead_72 cs_X11_902 rfl (vm_X11_medianOf (ar_X11_125 hX hp) hc12) rfl (rOk.of rfl) ?_
    refine v_istore F dX11_isMedianAhead_75 (Nat.le_of_ble_eq_true rfl) (L' := [mA 1545, mI a1, mI a2, mI v3, mI x9, mI x11]) rfl ?_
    refine v_iload F dX11_isMedianAhead_77 rfl ?_
    refine v_iload F dX11_isMedianAhead_79 rfl ?_
    refine v_icmp_eq F dX11_isMedianAhead_81 rfl (fun hq13 => ?_) (fun hq13 => ?_)
    · rw [if_pos hq13] at h
      refine v_aload_n F dX11_isMedianAhead_97 rfl rfl ?_
      refine gf_X11_893 F dX11_isMedianAhead_98 hp (v := 1628) rfl ?_
      refine v_iload F dX11_isMedianAhead_101 rfl ?_
      refine v_dup2_IA F dX11_isMedianAhead_103 ?_
      obtain ⟨hi14, h⟩ := ck_some h
      refine v_iald F dX11_isMedianAhead_104 (ar_X11_124 hX hp) hi14 ?_
      refine v_iconst F dX11_isMedianAhead_105 ⟨by decide, by decide⟩ ?_
      refine v_isub F dX11_isMedianAhead_106 ?_
      obtain ⟨d15, ed15, h⟩ := sd_some h
      refine v_iast F dX11_isMedianAhead_107 (ar_X11_124 hX hp) hi14 ?_
      refine v_nD ed15 ?_
      refine v_aload_n F dX11_isMedianAhead_108 rfl rfl ?_
      refine gf_X11_899 F dX11_isMedianAhead_109 hp (v := 1629) rfl ?_
      refine v_iload F dX11_isMedianAhead_112 rfl ?_
      refine v_dup2_IA F dX11_isMedianAhead_114 ?_
      obtain ⟨hi16, h⟩ := ck_some h
      refine v_iald F dX11_isMedianAhead_115 (ar_X11_125 hX hp) hi16 ?_
      refine v_iconst F dX11_isMedianAhead_116 ⟨by decide, by decide⟩ ?_
      refine v_isub F dX11_isMedianAhead_117 ?_
      obtain ⟨d17, ed17, h⟩ := sd_some h
      refine v_iast F dX11_isMedianAhead_118 (ar_X11_125 hX hp) hi16 ?_
      refine v_nD ed17 ?_
      obtain ⟨x18, ex18, h⟩ := lv_some h
      refine v_iincN F dX11_isMedianAhead_119 (Nat.le_of_ble_eq_true rfl) rfl ex18 (L' := [mA 1545, mI a1, mI a2, mI x18, mI x9, mI x11]) rfl ?_
      refine v_goto F dX11_isMedianAhead_122 rfl ?_
      cases h
      refine v_fgt (L' := [mA 1545, mI a1, mI a2, mI x18, mU, mU]) ⟨Or.inl rfl, Or.inl rfl, Or.inl rfl, Or.inl rfl, Or.inr rfl, Or.inr rfl, trivial⟩ ?_
      exact K
    · rw [if_neg hq13] at h
      obtain ⟨z, hu, ez⟩ := up_some h
      clear h
      subst ez
      have h := hu
      clear hu
      refine v_iload F dX11_isMedianAhead_84 rfl ?_
      refine v_iload F dX11_isMedianAhead_86 rfl ?_
      refine v_icmp_le F dX11_isMedianAhead_88 rfl (fun hq19 => ?_) (fun hq19 => ?_)
      · rw [if_pos hq19] at h
        refine v_iconst F dX11_isMedianAhead_95 ⟨by decide, by decide⟩ ?_
        cases h
        cases (show _ = (d', r) from K)
        exact v_zret F (Or.inl rfl) dX11_isMedianAhead_96
      · rw [if_neg hq19] at h
        refine v_iconst F dX11_isMedianAhead_91 ⟨by decide, by decide⟩ ?_
        refine v_goto F dX11_isMedianAhead_92 rfl ?_
        cases h
        cases (show _ = (d', r) from K)
        exact v_zret F (Or.inr rfl) dX11_isMedianAhead_96
theorem fX11_isMedianAhead_53_ok {w : Wd} {l : Launch} {G : Cx} {d m dd : Dt} {a1 a2 v3 : Int} {d' : Dt} {r : Int} {x : (Dt × Int)} (F : Fx w G cX11_isMedianAhead RX11 6 (some .boolean) { frames := 1, cells := 0, slots := 0, locals := 23 }) (hX : WF dd m) (hp : PB m 1545 11) (h : fX11_isMedianAhead_53 d a1 a2 v3 = some x) (K : (fun q => q = (d', r)) x) : V w l WF G (QM w G WF (some (mI r)) d' m 0 0) d m 0 0 53 [mA 1545, mI a1, mI a2, mI v3, mU, mU] [] := by
  unfold fX11_isMedianAhead_53 at h
  exact loop_ok (P := fX11_isMedianAhead_53P w l G (QM w G WF (some (mI r)) d' m 0 0) m a1 a2) (fun s x hx h1 h2 => fX11_isMedianAhead_53f_ok F hX hp hx (by
    cases x with
    | inl s' => exact h1 s' rfl
    | inr z => cases h2 z rfl; exact K)) h
theorem fX11_isMedianAhead_2f_ok {w : Wd} {l : Launch} {G : Cx} {m dd : Dt} {a1 a2 : Int} {d' : Dt} {r : Int} {s : Dt × Int} {x : ((Dt × Int) ⊕ (Dt × Int))} (F : Fx w G cX11_isMedianAhead RX11 6 (some .boolean) { frames := 1, cells := 0, slots := 0, locals := 23 }) (hX : WF dd m) (hp : PB m 1545 11) (h : fX11_isMedianAhead_2f a1 a2 s = some x) (K : (Sum.elim (fX11_isMedianAhead_2P w l G (QM w G WF (some (mI r)) d' m 0 0) m a1 a2) (fun q => q = (d', r))) x) : V w l WF G (QM w G WF (some (mI r)) d' m 0 0) s.1 m 0 0 2 [mA 1545, mI a1, mI a2, mI (s.2), mU, mU] [] := by
  obtain ⟨d, v3⟩ := s
  unfold fX11_isMedianAhead_2f at h
  dsimp only at h
  refine v_iload_n F dX11_isMedianAhead_2 rfl rfl ?_
  refine v_bipush F dX11_isMedianAhead_3 rfl ⟨by decide, by decide⟩ ?_
  refine v_icmp_ge F dX11_isMedianAhead_5 rfl (fun hq1 => ?_) (fun hq1 => ?_)
  · rw [if_pos hq1] at h
    obtain ⟨z, hu, ez⟩ := up_some h
    clear h
    subst ez
    have h := hu
    clear hu
    refine v_aload_n F dX11_isMedianAhead_48 rfl rfl ?_
    refine gf_X11_767 F dX11_isMedianAhead_49 hp ?_
    obtain ⟨x2, ex2, h⟩ := lv_some h
    refine v_nI ex2 ?_
    refine v_istore_n F dX11_isMedianAhead_52 rfl (Nat.le_of_ble_eq_true rfl) (L' := [mA 1545, mI a1, mI a2, mI x2, mU, mU]) rfl ?_
    exact fX11_isMedianAhead_53_ok F hX hp h K
  · rw [if_neg hq1] at h
    refine v_aload_n F dX11_isMedianAhead_8 rfl rfl ?_
    refine gf_X11_893 F dX11_isMedianAhead_9 hp (v := 1628) rfl ?_
    refine v_iload_n F dX11_isMedianAhead_12 rfl rfl ?_
    refine v_aload_n F dX11_isMedianAhead_13 rfl rfl ?_
    refine gf_X11_896 F dX11_isMedianAhead_14 hp (v := 1627) rfl ?_
    refine v_bipush F dX11_isMedianAhead_17 rfl ⟨by decide, by decide⟩ ?_
    refine v_iload_n F dX11_isMedianAhead_19 rfl rfl ?_
    refine v_imul F dX11_isMedianAhead_20 ?_
    refine v_iload_n F dX11_isMedianAhead_21 rfl rfl ?_
    refine v_iadd F dX11_isMedianAhead_22 ?_
    obtain ⟨x20, ex20, h⟩ := lv_some h
    refine v_nI ex20 ?_
    obtain ⟨hi21, h⟩ := ck_some h
    refine v_iald F dX11_isMedianAhead_23 (ar_X11_123 hX hp) hi21 ?_
    obtain ⟨hi22, h⟩ := ck_some h
    obtain ⟨d23, ed23, h⟩ := sd_some h
    refine v_iast F dX11_isMedianAhead_24 (ar_X11_124 hX hp) hi22 ?_
    refine v_nD ed23 ?_
    refine v_aload_n F dX11_isMedianAhead_25 rfl rfl ?_
    refine gf_X11_899 F dX11_isMedianAhead_26 hp (v := 1629) rfl ?_
    refine v_iload_n F dX11_isMedianAhead_29 rfl rfl ?_
    refine v_aload_n F dX11_isMedianAhead_30 rfl rfl ?_
    refine gf_X11_896 F dX11_isMedianAhead_31 hp (v := 1627) rfl ?_
    refine v_bipush F dX11_isMedianAhead_34 rfl ⟨by decide, by decide⟩ ?_
    refine v_iload_n F dX11_isMedianAhead_36 rfl rfl ?_
    refine v_imul F dX11_isMedianAhead_37 ?_
    refine v_iload_n F dX11_isMedianAhead_38 rfl rfl ?_
    refine v_iadd F dX11_isMedianAhead_39 ?_
    obtain ⟨x24, ex24, h⟩ := lv_some h
    refine v_nI ex24 ?_
    obtain ⟨hi25, h⟩ := ck_some h
    refine v_iald F dX11_isMedianAhead_40 (ar_X11_123 hX hp) hi25 ?_
    obtain ⟨d26, ed26, h⟩ := sd_some h
    refine v_iast F dX11_isMedianAhead_41 (ar_X11_125 hX hp) hi22 ?_
    refine v_nD ed26 ?_
    obtain ⟨x27, ex27, h⟩ := lv_some h
    refine v_iincN F dX11_isMedianAhead_42 (Nat.le_of_ble_eq_true rfl) rfl ex27 (L' := [mA 1545, mI a1, mI a2, mI x27, mU, mU]) rfl ?_
    refine v_goto F dX11_isMedianAhead_45 rfl ?_
    cases h
    exact K
theorem fX11_isMedianAhead_2_ok {w : Wd} {l : Launch} {G : Cx} {d m dd : Dt} {a1 a2 v3 : Int} {d' : Dt} {r : Int} {x : (Dt × Int)} (F : Fx w G cX11_isMedianAhead RX11 6 (some .boolean) { frames := 1, cells := 0, slots := 0, locals := 23 }) (hX : WF dd m) (hp : PB m 1545 11) (h : fX11_isMedianAhead_2 d a1 a2 v3 = some x) (K : (fun q => q = (d', r)) x) : V w l WF G (QM w G WF (some (mI r)) d' m 0 0) d m 0 0 2 [mA 1545, mI a1, mI a2, mI v3, mU, mU] [] := by
  unfold fX11_isMedianAhead_2 at h
  exact loop_ok (P := fX11_isMedianAhead_2P w l G (QM w G WF (some (mI r)) d' m 0 0) m a1 a2) (fun s x hx h1 h2 => fX11_isMedianAhead_2f_ok F hX hp hx (by
    cases x with
    | inl s' => exact h1 s' rfl
    | inr z => cases h2 z rfl; exact K)) h
theorem vm_X11_isMedianAhead {w : Wd} {l : Launch} {d m : Dt} {a1 a2 : Int} {d' : Dt} {r : Int} (hp : PB m 1545 11) (h : fX11_isMedianAhead d a1 a2 = some (d', r)) : VM w l WF yX11_isMedianAhead cX11_isMedianAhead 6 (some .boolean) 1 23 0 0 d m [mA 1545, mI a1, mI a2] (some (mI r)) d' m := by
  obtain ⟨x, h, K⟩ : ∃ x, fX11_isMedianAhead d a1 a2 = some x ∧ x = (d', r) := ⟨_, h, rfl⟩
  refine VM.of (L := [mA 1545, mI a1, mI a2, mU, mU, mU]) (by decide +kernel) rfl (Nat.le_of_ble_eq_true rfl) fun G F _ => v_fact fun _ hX _ _ => ?_
  unfold fX11_isMedianAhead at h
  refine v_iconst F dX11_isMedianAhead_0 ⟨by decide, by decide⟩ ?_
  refine v_istore_n F dX11_isMedianAhead_1 rfl (Nat.le_of_ble_eq_true rfl) (L' := [mA 1545, mI a1, mI a2, mI 0, mU, mU]) rfl ?_
  exact fX11_isMedianAhead_2_ok F hX hp h K
def fX11_countMedian_2P (w : Wd) (l : Launch) (G : Cx) (Q : State → Prop) (m : Dt) (s : Dt × Int) : Prop := V w l WF G Q s.1 m 0 0 2 [mA 1545, mI (s.2), mU] []
def fX11_countMedian_23P (w : Wd) (l : Launch) (G : Cx) (Q : State → Prop) (m : Dt) (s : Dt × Int) : Prop := V w l WF G Q s.1 m 0 0 23 [mA 1545, mI (s.2), mU] []
def fX11_countMedian_80P (w : Wd) (l : Launch) (G : Cx) (Q : State → Prop) (m : Dt) (s : Dt × Int) : Prop := V w l WF G Q s.1 m 0 0 80 [mA 1545, mI (s.2), mU] []
def fX11_countMedian_132P (w : Wd) (l : Launch) (G : Cx) (Q : State → Prop) (m : Dt) (s : Dt × Int) : Prop := V w l WF G Q s.1 m 0 0 132 [mA 1545, mI (s.2), mU] []
def fX11_countMedian_149P (w : Wd) (l : Launch) (G : Cx) (Q : State → Prop) (m : Dt) (v1 : Int) (s : Dt × Int) : Prop := V w l WF G Q s.1 m 0 0 149 [mA 1545, mI v1, mI (s.2)] []
theorem fX11_countMedian_201_ok {w : Wd} {l : Launch} {G : Cx} {d m dd : Dt} {v1 v2 s1 s2 s3 : Int} {d' : Dt} {x : ((Dt × Int) ⊕ ((Dt × Int) ⊕ Dt))} (F : Fx w G cX11_countMedian RX11 3 none { frames := 2, cells := 0, slots := 0, locals := 48 }) (hX : WF dd m) (hp : PB m 1545 11) (h : fX11_countMedian_201 d v1 v2 s1 s2 s3 = some x) (K : (Sum.elim (fX11_countMedian_149P w l G (QM w G WF none d' m 0 0) m v1) (Sum.elim (fX11_countMedian_132P w l G (QM w G WF none d' m 0 0) m) (fun q => q = d'))) x) : V w l WF G (QM w G WF none d' m 0 0) d m 0 0 201 [mA 1545, mI v1, mI v2] [mL s3, mL s2, mI s1, mA 1621] := by
  unfold fX11_countMedian_201 at h
  refine v_ladd F dX11_countMedian_201 ?_
  obtain ⟨hi15, h⟩ := ck_some h
  obtain ⟨d16, ed16, h⟩ := sd_some h
  refine v_last F dX11_countMedian_202 (ar_X11_108 hX hp) hi15 ?_
  refine v_nD ed16 ?_
  obtain ⟨x17, ex17, h⟩ := lv_some h
  refine v_iincN F dX11_countMedian_203 (Nat.le_of_ble_eq_true rfl) rfl ex17 (L' := [mA 1545, mI v1, mI x17]) rfl ?_
  refine v_goto F dX11_countMedian_206 rfl ?_
  cases h
  exact K
theorem fX11_countMedian_149f_ok {w : Wd} {l : Launch} {G : Cx} {m dd : Dt} {v1 : Int} {d' : Dt} {s : Dt × Int} {x : ((Dt × Int) ⊕ ((Dt × Int) ⊕ Dt))} (F : Fx w G cX11_countMedian RX11 3 none { frames := 2, cells := 0, slots := 0, locals := 48 }) (hX : WF dd m) (hp : PB m 1545 11) (h : fX11_countMedian_149f v1 s = some x) (K : (Sum.elim (fX11_countMedian_149P w l G (QM w G WF none d' m 0 0) m v1) (Sum.elim (fX11_countMedian_132P w l G (QM w G WF none d' m 0 0) m) (fun q => q = d'))) x) : V w l WF G (QM w G WF none d' m 0 0) s.1 m 0 0 149 [mA 1545, mI v1, mI (s.2)] [] := by
  obtain ⟨d, v2⟩ := s
  unfold fX11_countMedian_149f at h
  dsimp only at h
  refine v_iload_n F dX11_countMedian_149 rfl rfl ?_
  refine v_aload_n F dX11_countMedian_150 rfl rfl ?_
  refine gf_X11_755 F dX11_countMedian_151 hp ?_
  refine v_icmp_ge F dX11_countMedian_154 rfl (fun hq11 => ?_) (fun hq11 => ?_)
  · rw [if_pos hq11] at h
    obtain ⟨z, hu, ez⟩ := up_some h
    clear h
    subst ez
    have h := hu
    clear hu
    obtain ⟨x12, ex12, h⟩ := lv_some h
    refine v_iincN F dX11_countMedian_209 (Nat.le_of_ble_eq_true rfl) rfl ex12 (L' := [mA 1545, mI x12, mI v2]) rfl ?_
    refine v_goto F dX11_countMedian_212 rfl ?_
    cases h
    refine v_fgt (L' := [mA 1545, mI x12, mU]) ⟨Or.inl rfl, Or.inl rfl, Or.inr rfl, trivial⟩ ?_
    exact K
  · rw [if_neg hq11] at h
    refine v_aload_n F dX11_countMedian_157 rfl rfl ?_
    refine gf_X11_801 F dX11_countMedian_158 hp (v := 1621) rfl ?_
    refine v_iload_n F dX11_countMedian_161 rfl rfl ?_
    refine v_dup2_IA F dX11_countMedian_162 ?_
    obtain ⟨hi13, h⟩ := ck_some h
    refine v_lald F dX11_countMedian_163 (ar_X11_108 hX hp) hi13 ?_
    refine v_aload_n F dX11_countMedian_164 rfl rfl ?_
    refine gf_X11_764 F dX11_countMedian_165 hp (v := 1617) rfl ?_
    refine v_iload_n F dX11_countMedian_168 rfl rfl ?_
    refine v_zald F dX11_countMedian_169 (ar_X11_101 hX hp) hi13 ?_
    refine v_if_eq F dX11_countMedian_170 rfl (fun hq14 => ?_) (fun hq14 => ?_)
    · rw [if_pos hq14] at h
      refine v_lconst0 F dX11_countMedian_200 ?_
      exact fX11_countMedian_201_ok F hX hp h K
    · rw [if_neg hq14] at h
      refine v_aload_n F dX11_countMedian_173 rfl rfl ?_
      refine gf_X11_764 F dX11_countMedian_174 hp (v := 1617) rfl ?_
      refine v_iload_n F dX11_countMedian_177 rfl rfl ?_
      obtain ⟨hi18, h⟩ := ck_some h
      refine v_zald F dX11_countMedian_178 (ar_X11_101 hX hp) hi18 ?_
      refine v_if_eq F dX11_countMedian_179 rfl (fun hq19 => ?_) (fun hq19 => ?_)
      · rw [if_pos hq19] at h
        refine v_lconst0 F dX11_countMedian_200 ?_
        exact fX11_countMedian_201_ok F hX hp h K
      · rw [if_neg hq19] at h
        refine v_iload_n F dX11_countMedian_182 rfl rfl ?_
        refine v_iload_n F dX11_countMedian_183 rfl rfl ?_
        refine v_icmp_eq F dX11_countMedian_184 rfl (fun hq20 => ?_) (fun hq20 => ?_)
        · rw [if_pos hq20] at h
          refine v_lconst0 F dX11_countMedian_200 ?_
          exact fX11_countMedian_201_ok F hX hp h K
        · rw [if_neg hq20] at h
          refine v_aload_n F dX11_countMedian_187 rfl rfl ?_
          refine v_iload_n F dX11_countMedian_188 rfl rfl ?_
          refine v_iload_n F dX11_countMedian_189 rfl rfl ?_
          obtain ⟨d21, x23, hc22, h⟩ := b2_some h
          refine v_callVv (c := 11) F dX11_countMedian_190 cv_X11_906 rfl (PB.ob hp hX (Nat.le_of_ble_eq_true rfl)) (Nat.le_of_ble_eq_true rfl) rfl (vm_X11_isMedianAhead hp hc22) rfl (rOk.of rfl) ?_
          refine v_if_eq F dX11_countMedian_193 rfl (fun hq24 => ?_) (fun hq24 => ?_)
          · rw [if_pos hq24] at h
            refine v_lconst0 F dX11_countMedian_200 ?_
            exact fX11_countMedian_201_ok F hX hp h K
          · rw [if_neg hq24] at h
            refine v_lconst1 F dX11_countMedian_196 ?_
            refine v_goto F dX11_countMedian_197 rfl ?_
            exact fX11_countMedian_201_ok F hX hp h K
theorem fX11_countMedian_149_ok {w : Wd} {l : Launch} {G : Cx} {d m dd : Dt} {v1 v2 : Int} {d' : Dt} {x : ((Dt × Int) ⊕ Dt)} (F : Fx w G cX11_countMedian RX11 3 none { frames := 2, cells := 0, slots := 0, locals := 48 }) (hX : WF dd m) (hp : PB m 1545 11) (h : fX11_countMedian_149 d v1 v2 = some x) (K : (Sum.elim (fX11_countMedian_132P w l G (QM w G WF none d' m 0 0) m) (fun q => q = d')) x) : V w l WF G (QM w G WF none d' m 0 0) d m 0 0 149 [mA 1545, mI v1, mI v2] [] := by
  unfold fX11_countMedian_149 at h
  exact loop_ok (P := fX11_countMedian_149P w l G (QM w G WF none d' m 0 0) m v1) (fun s x hx h1 h2 => fX11_countMedian_149f_ok F hX hp hx (by
    cases x with
    | inl s' => exact h1 s' rfl
    | inr z => cases h2 z rfl; exact K)) h
theorem fX11_countMedian_132f_ok {w : Wd} {l : Launch} {G : Cx} {m dd : Dt} {d' : Dt} {s : Dt × Int} {x : ((Dt × Int) ⊕ Dt)} (F : Fx w G cX11_countMedian RX11 3 none { frames := 2, cells := 0, slots := 0, locals := 48 }) (hX : WF dd m) (hp : PB m 1545 11) (h : fX11_countMedian_132f s = some x) (K : (Sum.elim (fX11_countMedian_132P w l G (QM w G WF none d' m 0 0) m) (fun q => q = d')) x) : V w l WF G (QM w G WF none d' m 0 0) s.1 m 0 0 132 [mA 1545, mI (s.2), mU] [] := by
  obtain ⟨d, v1⟩ := s
  unfold fX11_countMedian_132f at h
  dsimp only at h
  refine v_iload_n F dX11_countMedian_132 rfl rfl ?_
  refine v_aload_n F dX11_countMedian_133 rfl rfl ?_
  refine gf_X11_755 F dX11_countMedian_134 hp ?_
  refine v_icmp_ge F dX11_countMedian_137 rfl (fun hq4 => ?_) (fun hq4 => ?_)
  · rw [if_pos hq4] at h
    obtain ⟨z, hu, ez⟩ := up_some h
    clear h
    subst ez
    have h := hu
    clear hu
    refine v_aload_n F dX11_countMedian_215 rfl rfl ?_
    obtain ⟨d5, hc6, h⟩ := bd_some h
    refine v_callV0 (c := 11) F dX11_countMedian_216 cv_X11_871 rfl (PB.ob hp hX (Nat.le_of_ble_eq_true rfl)) (Nat.le_of_ble_eq_true rfl) rfl (vm_X11_orderByVotes hp hc6) rfl (rOk.of rfl) ?_
    refine v_aload_n F dX11_countMedian_219 rfl rfl ?_
    obtain ⟨d7, hc8, h⟩ := bd_some h
    refine v_callV0 (c := 11) F dX11_countMedian_220 cv_X11_874 rfl (PB.ob hp hX (Nat.le_of_ble_eq_true rfl)) (Nat.le_of_ble_eq_true rfl) rfl (vm_X11_winFirst hp hc8) rfl (rOk.of rfl) ?_
    cases h
    cases (show _ = d' from K)
    exact v_vret F dX11_countMedian_223
  · rw [if_neg hq4] at h
    refine v_aload_n F dX11_countMedian_140 rfl rfl ?_
    refine gf_X11_801 F dX11_countMedian_141 hp (v := 1621) rfl ?_
    refine v_iload_n F dX11_countMedian_144 rfl rfl ?_
    refine v_lconst0 F dX11_countMedian_145 ?_
    obtain ⟨hi9, h⟩ := ck_some h
    obtain ⟨d10, ed10, h⟩ := sd_some h
    refine v_last F dX11_countMedian_146 (ar_X11_108 hX hp) hi9 ?_
    refine v_nD ed10 ?_
    refine v_iconst F dX11_countMedian_147 ⟨by decide, by decide⟩ ?_
    refine v_istore_n F dX11_countMedian_148 rfl (Nat.le_of_ble_eq_true rfl) (L' := [mA 1545, mI v1, mI 0]) rfl ?_
    exact fX11_countMedian_149_ok F hX hp h K
theorem fX11_countMedian_132_ok {w : Wd} {l : Launch} {G : Cx} {d m dd : Dt} {v1 : Int} {d' : Dt} {x : Dt} (F : Fx w G cX11_countMedian RX11 3 none { frames := 2, cells := 0, slots := 0, locals := 48 }) (hX : WF dd m) (hp : PB m 1545 11) (h : fX11_countMedian_132 d v1 = some x) (K : (fun q => q = d') x) : V w l WF G (QM w G WF none d' m 0 0) d m 0 0 132 [mA 1545, mI v1, mU] [] := by
  unfold fX11_countMedian_132 at h
  exact loop_ok (P := fX11_countMedian_132P w l G (QM w G WF none d' m 0 0) m) (fun s x hx h1 h2 => fX11_countMedian_132f_ok F hX hp hx (by
    cases x with
    | inl s' => exact h1 s' rfl
    | inr z => cases h2 z rfl; exact K)) h
def fX11_countMedian_88P (w : Wd) (l : Launch) (G : Cx) (Q : State → Prop) (m : Dt) (v1 : Int) (s : Dt × Int) : Prop := V w l WF G Q s.1 m 0 0 88 [mA 1545, mI v1, mI (s.2)] []
theorem fX11_countMedian_88f_ok {w : Wd} {l : Launch} {G : Cx} {m dd : Dt} {v1 : Int} {d' : Dt} {s : Dt × Int} {x : ((Dt × Int) ⊕ ((Dt × Int) ⊕ Dt))} (F : Fx w G cX11_countMedian RX11 3 none { frames := 2, cells := 0, slots := 0, locals := 48 }) (hX : WF dd m) (hp : PB m 1545 11) (h : fX11_countMedian_88f v1 s = some x) (K : (Sum.elim (fX11_countMedian_88P w l G (QM w G WF none d' m 0 0) m v1) (Sum.elim (fX11_countMedian_80P w l G (QM w G WF none d' m 0 0) m) (fun q => q = d'))) x) : V w l WF G (QM w G WF none d' m 0 0) s.1 m 0 0 88 [mA 1545, mI v1, mI (s.2)] [] := by
  obtain ⟨d, v2⟩ := s
  unfold fX11_countMedian_88f at h
  dsimp only at h
  refine v_iload_n F dX11_countMedian_88 rfl rfl ?_
  refine v_aload_n F dX11_countMedian_89 rfl rfl ?_
  refine gf_X11_755 F dX11_countMedian_90 hp ?_
  refine v_icmp_ge F dX11_countMedian_93 rfl (fun hq25 => ?_) (fun hq25 => ?_)
  · rw [if_pos hq25] at h
    obtain ⟨z, hu, ez⟩ := up_some h
    clear h
    subst ez
    have h := hu
    clear hu
    refine v_aload_n F dX11_countMedian_120 rfl rfl ?_
    obtain ⟨d26, hc27, h⟩ := bd_some h
    refine v_callV0 (c := 11) F dX11_countMedian_121 cv_X11_868 rfl (PB.ob hp hX (Nat.le_of_ble_eq_true rfl)) (Nat.le_of_ble_eq_true rfl) rfl (vm_X11_tell hp hc27) rfl (rOk.of rfl) ?_
    obtain ⟨x28, ex28, h⟩ := lv_some h
    refine v_iincN F dX11_countMedian_124 (Nat.le_of_ble_eq_true rfl) rfl ex28 (L' := [mA 1545, mI x28, mI v2]) rfl ?_
    refine v_goto F dX11_countMedian_127 rfl ?_
    cases h
    refine v_fgt (L' := [mA 1545, mI x28, mU]) ⟨Or.inl rfl, Or.inl rfl, Or.inr rfl, trivial⟩ ?_
    exact K
  · rw [if_neg hq25] at h
    refine v_aload_n F dX11_countMedian_96 rfl rfl ?_
    refine gf_X11_801 F dX11_countMedian_97 hp (v := 1621) rfl ?_
    refine v_iload_n F dX11_countMedian_100 rfl rfl ?_
    refine v_aload_n F dX11_countMedian_101 rfl rfl ?_
    refine gf_X11_896 F dX11_countMedian_102 hp (v := 1627) rfl ?_
    refine v_bipush F dX11_countMedian_105 rfl ⟨by decide, by decide⟩ ?_
    refine v_iload_n F dX11_countMedian_107 rfl rfl ?_
    refine v_imul F dX11_countMedian_108 ?_
    refine v_iload_n F dX11_countMedian_109 rfl rfl ?_
    refine v_iadd F dX11_countMedian_110 ?_
    obtain ⟨x29, ex29, h⟩ := lv_some h
    refine v_nI ex29 ?_
    obtain ⟨hi30, h⟩ := ck_some h
    refine v_iald F dX11_countMedian_111 (ar_X11_123 hX hp) hi30 ?_
    refine v_i2l F dX11_countMedian_112 ?_
    obtain ⟨hi31, h⟩ := ck_some h
    obtain ⟨d32, ed32, h⟩ := sd_some h
    refine v_last F dX11_countMedian_113 (ar_X11_108 hX hp) hi31 ?_
    refine v_nD ed32 ?_
    obtain ⟨x33, ex33, h⟩ := lv_some h
    refine v_iincN F dX11_countMedian_114 (Nat.le_of_ble_eq_true rfl) rfl ex33 (L' := [mA 1545, mI v1, mI x33]) rfl ?_
    refine v_goto F dX11_countMedian_117 rfl ?_
    cases h
    exact K
theorem fX11_countMedian_88_ok {w : Wd} {l : Launch} {G : Cx} {d m dd : Dt} {v1 v2 : Int} {d' : Dt} {x : ((Dt × Int) ⊕ Dt)} (F : Fx w G cX11_countMedian RX11 3 none { frames := 2, cells := 0, slots := 0, locals := 48 }) (hX : WF dd m) (hp : PB m 1545 11) (h : fX11_countMedian_88 d v1 v2 = some x) (K : (Sum.elim (fX11_countMedian_80P w l G (QM w G WF none d' m 0 0) m) (fun q => q = d')) x) : V w l WF G (QM w G WF none d' m 0 0) d m 0 0 88 [mA 1545, mI v1, mI v2] [] := by
  unfold fX11_countMedian_88 at h
  exact loop_ok (P := fX11_countMedian_88P w l G (QM w G WF none d' m 0 0) m v1) (fun s x hx h1 h2 => fX11_countMedian_88f_ok F hX hp hx (by
    cases x with
    | inl s' => exact h1 s' rfl
    | inr z => cases h2 z rfl; exact K)) h
theorem fX11_countMedian_80f_ok {w : Wd} {l : Launch} {G : Cx} {m dd : Dt} {d' : Dt} {s : Dt × Int} {x : ((Dt × Int) ⊕ Dt)} (F : Fx w G cX11_countMedian RX11 3 none { frames := 2, cells := 0, slots := 0, locals := 48 }) (hX : WF dd m) (hp : PB m 1545 11) (h : fX11_countMedian_80f s = some x) (K : (Sum.elim (fX11_countMedian_80P w l G (QM w G WF none d' m 0 0) m) (fun q => q = d')) x) : V w l WF G (QM w G WF none d' m 0 0) s.1 m 0 0 80 [mA 1545, mI (s.2), mU] [] := by
  obtain ⟨d, v1⟩ := s
  unfold fX11_countMedian_80f at h
  dsimp only at h
  refine v_iload_n F dX11_countMedian_80 rfl rfl ?_
  refine v_bipush F dX11_countMedian_81 rfl ⟨by decide, by decide⟩ ?_
  refine v_icmp_ge F dX11_countMedian_83 rfl (fun hq3 => ?_) (fun hq3 => ?_)
  · rw [if_pos hq3] at h
    obtain ⟨z, hu, ez⟩ := up_some h
    clear h
    subst ez
    have h := hu
    clear hu
    refine v_iconst F dX11_countMedian_130 ⟨by decide, by decide⟩ ?_
    refine v_istore_n F dX11_countMedian_131 rfl (Nat.le_of_ble_eq_true rfl) (L' := [mA 1545, mI 0, mU]) rfl ?_
    exact fX11_countMedian_132_ok F hX hp h K
  · rw [if_neg hq3] at h
    refine v_iconst F dX11_countMedian_86 ⟨by decide, by decide⟩ ?_
    refine v_istore_n F dX11_countMedian_87 rfl (Nat.le_of_ble_eq_true rfl) (L' := [mA 1545, mI v1, mI 0]) rfl ?_
    exact fX11_countMedian_88_ok F hX hp h K
theorem fX11_countMedian_80_ok {w : Wd} {l : Launch} {G : Cx} {d m dd : Dt} {v1 : Int} {d' : Dt} {x : Dt} (F : Fx w G cX11_countMedian RX11 3 none { frames := 2, cells := 0, slots := 0, locals := 48 }) (hX : WF dd m) (hp : PB m 1545 11) (h : fX11_countMedian_80 d v1 = some x) (K : (fun q => q = d') x) : V w l WF G (QM w G WF none d' m 0 0) d m 0 0 80 [mA 1545, mI v1, mU] [] := by
  unfold fX11_countMedian_80 at h
  exact loop_ok (P := fX11_countMedian_80P w l G (QM w G WF none d' m 0 0) m) (fun s x hx h1 h2 => fX11_countMedian_80f_ok F hX hp hx (by
    cases x with
    | inl s' => exact h1 s' rfl
    | inr z => cases h2 z rfl; exact K)) h
def fX11_countMedian_33P (w : Wd) (l : Launch) (G : Cx) (Q : State → Prop) (m : Dt) (v1 : Int) (s : Dt × Int) : Prop := V w l WF G Q s.1 m 0 0 33 [mA 1545, mI v1, mI (s.2)] []
theorem fX11_countMedian_33f_ok {w : Wd} {l : Launch} {G : Cx} {m dd : Dt} {v1 : Int} {d' : Dt} {s : Dt × Int} {x : ((Dt × Int) ⊕ ((Dt × Int) ⊕ Dt))} (F : Fx w G cX11_countMedian RX11 3 none { frames := 2, cells := 0, slots := 0, locals := 48 }) (hX : WF dd m) (hp : PB m 1545 11) (h : fX11_countMedian_33f v1 s = some x) (K : (Sum.elim (fX11_countMedian_33P w l G (QM w G WF none d' m 0 0) m v1) (Sum.elim (fX11_countMedian_23P w l G (QM w G WF none d' m 0 0) m) (fun q => q = d'))) x) : V w l WF G (QM w G WF none d' m 0 0) s.1 m 0 0 33 [mA 1545, mI v1, mI (s.2)] [] := by
  obtain ⟨d, v2⟩ := s
  unfold fX11_countMedian_33f at h
  dsimp only at h
  refine v_iload_n F dX11_countMedian_33 rfl rfl ?_
  refine v_aload_n F dX11_countMedian_34 rfl rfl ?_
  refine gf_X11_755 F dX11_countMedian_35 hp ?_
  refine v_icmp_ge F dX11_countMedian_38 rfl (fun hq34 => ?_) (fun hq34 => ?_)
  · rw [if_pos hq34] at h
    obtain ⟨z, hu, ez⟩ := up_some h
    clear h
    subst ez
    have h := hu
    clear hu
    obtain ⟨x35, ex35, h⟩ := lv_some h
    refine v_iincN F dX11_countMedian_72 (Nat.le_of_ble_eq_true rfl) rfl ex35 (L' := [mA 1545, mI x35, mI v2]) rfl ?_
    refine v_goto F dX11_countMedian_75 rfl ?_
    cases h
    refine v_fgt (L' := [mA 1545, mI x35, mU]) ⟨Or.inl rfl, Or.inl rfl, Or.inr rfl, trivial⟩ ?_
    exact K
  · rw [if_neg hq34] at h
    refine v_aload_n F dX11_countMedian_41 rfl rfl ?_
    refine gf_X11_896 F dX11_countMedian_42 hp (v := 1627) rfl ?_
    refine v_bipush F dX11_countMedian_45 rfl ⟨by decide, by decide⟩ ?_
    refine v_iload_n F dX11_countMedian_47 rfl rfl ?_
    refine v_imul F dX11_countMedian_48 ?_
    refine v_aload_n F dX11_countMedian_49 rfl rfl ?_
    refine gf_X11_780 F dX11_countMedian_50 hp (v := 1618) rfl ?_
    refine v_bipush F dX11_countMedian_53 rfl ⟨by decide, by decide⟩ ?_
    refine v_iload_n F dX11_countMedian_55 rfl rfl ?_
    refine v_imul F dX11_countMedian_56 ?_
    refine v_iload_n F dX11_countMedian_57 rfl rfl ?_
    refine v_iadd F dX11_countMedian_58 ?_
    obtain ⟨x36, ex36, h⟩ := lv_some h
    refine v_nI ex36 ?_
    obtain ⟨hi37, h⟩ := ck_some h
    refine v_iald F dX11_countMedian_59 (ar_X11_105 hX hp) hi37 ?_
    refine v_iadd F dX11_countMedian_60 ?_
    obtain ⟨x38, ex38, h⟩ := lv_some h
    refine v_nI ex38 ?_
    refine v_dup2_IA F dX11_countMedian_61 ?_
    obtain ⟨hi39, h⟩ := ck_some h
    refine v_iald F dX11_countMedian_62 (ar_X11_123 hX hp) hi39 ?_
    refine v_iconst F dX11_countMedian_63 ⟨by decide, by decide⟩ ?_
    refine v_iadd F dX11_countMedian_64 ?_
    obtain ⟨d40, ed40, h⟩ := sd_some h
    refine v_iast F dX11_countMedian_65 (ar_X11_123 hX hp) hi39 ?_
    refine v_nD ed40 ?_
    obtain ⟨x41, ex41, h⟩ := lv_some h
    refine v_iincN F dX11_countMedian_66 (Nat.le_of_ble_eq_true rfl) rfl ex41 (L' := [mA 1545, mI v1, mI x41]) rfl ?_
    refine v_goto F dX11_countMedian_69 rfl ?_
    cases h
    exact K
theorem fX11_countMedian_33_ok {w : Wd} {l : Launch} {G : Cx} {d m dd : Dt} {v1 v2 : Int} {d' : Dt} {x : ((Dt × Int) ⊕ Dt)} (F : Fx w G cX11_countMedian RX11 3 none { frames := 2, cells := 0, slots := 0, locals := 48 }) (hX : WF dd m) (hp : PB m 1545 11) (h : fX11_countMedian_33 d v1 v2 = some x) (K : (Sum.elim (fX11_countMedian_23P w l G (QM w G WF none d' m 0 0) m) (fun q => q = d')) x) : V w l WF G (QM w G WF none d' m 0 0) d m 0 0 33 [mA 1545, mI v1, mI v2] [] := by
  unfold fX11_countMedian_33 at h
  exact loop_ok (P := fX11_countMedian_33P w l G (QM w G WF none d' m 0 0) m v1) (fun s x hx h1 h2 => fX11_countMedian_33f_ok F hX hp hx (by
    cases x with
    | inl s' => exact h1 s' rfl
    | inr z => cases h2 z rfl; exact K)) h
theorem fX11_countMedian_23f_ok {w : Wd} {l : Launch} {G : Cx} {m dd : Dt} {d' : Dt} {s : Dt × Int} {x : ((Dt × Int) ⊕ Dt)} (F : Fx w G cX11_countMedian RX11 3 none { frames := 2, cells := 0, slots := 0, locals := 48 }) (hX : WF dd m) (hp : PB m 1545 11) (h : fX11_countMedian_23f s = some x) (K : (Sum.elim (fX11_countMedian_23P w l G (QM w G WF none d' m 0 0) m) (fun q => q = d')) x) : V w l WF G (QM w G WF none d' m 0 0) s.1 m 0 0 23 [mA 1545, mI (s.2), mU] [] := by
  obtain ⟨d, v1⟩ := s
  unfold fX11_countMedian_23f at h
  dsimp only at h
  refine v_iload_n F dX11_countMedian_23 rfl rfl ?_
  refine v_aload_n F dX11_countMedian_24 rfl rfl ?_
  refine gf_X11_767 F dX11_countMedian_25 hp ?_
  refine v_icmp_ge F dX11_countMedian_28 rfl (fun hq2 => ?_) (fun hq2 => ?_)
  · rw [if_pos hq2] at h
    obtain ⟨z, hu, ez⟩ := up_some h
    clear h
    subst ez
    have h := hu
    clear hu
    refine v_iconst F dX11_countMedian_78 ⟨by decide, by decide⟩ ?_
    refine v_istore_n F dX11_countMedian_79 rfl (Nat.le_of_ble_eq_true rfl) (L' := [mA 1545, mI 0, mU]) rfl ?_
    exact fX11_countMedian_80_ok F hX hp h K
  · rw [if_neg hq2] at h
    refine v_iconst F dX11_countMedian_31 ⟨by decide, by decide⟩ ?_
    refine v_istore_n F dX11_countMedian_32 rfl (Nat.le_of_ble_eq_true rfl) (L' := [mA 1545, mI v1, mI 0]) rfl ?_
    exact fX11_countMedian_33_ok F hX hp h K
theorem fX11_countMedian_23_ok {w : Wd} {l : Launch} {G : Cx} {d m dd : Dt} {v1 : Int} {d' : Dt} {x : Dt} (F : Fx w G cX11_countMedian RX11 3 none { frames := 2, cells := 0, slots := 0, locals := 48 }) (hX : WF dd m) (hp : PB m 1545 11) (h : fX11_countMedian_23 d v1 = some x) (K : (fun q => q = d') x) : V w l WF G (QM w G WF none d' m 0 0) d m 0 0 23 [mA 1545, mI v1, mU] [] := by
  unfold fX11_countMedian_23 at h
  exact loop_ok (P := fX11_countMedian_23P w l G (QM w G WF none d' m 0 0) m) (fun s x hx h1 h2 => fX11_countMedian_23f_ok F hX hp hx (by
    cases x with
    | inl s' => exact h1 s' rfl
    | inr z => cases h2 z rfl; exact K)) h
theorem fX11_countMedian_2f_ok {w : Wd} {l : Launch} {G : Cx} {m dd : Dt} {d' : Dt} {s : Dt × Int} {x : ((Dt × Int) ⊕ Dt)} (F : Fx w G cX11_countMedian RX11 3 none { frames := 2, cells := 0, slots := 0, locals := 48 }) (hX : WF dd m) (hp : PB m 1545 11) (h : fX11_countMedian_2f s = some x) (K : (Sum.elim (fX11_countMedian_2P w l G (QM w G WF none d' m 0 0) m) (fun q => q = d')) x) : V w l WF G (QM w G WF none d' m 0 0) s.1 m 0 0 2 [mA 1545, mI (s.2), mU] [] := by
  obtain ⟨d, v1⟩ := s
  unfold fX11_countMedian_2f at h
  dsimp only at h
  refine v_iload_n F dX11_countMedian_2 rfl rfl ?_
  refine v_bipush F dX11_countMedian_3 rfl ⟨by decide, by decide⟩ ?_
  refine v_icmp_ge F dX11_countMedian_5 rfl (fun hq1 => ?_) (fun hq1 => ?_)
  · rw [if_pos hq1] at h
    obtain ⟨z, hu, ez⟩ := up_some h
    clear h
    subst ez
    have h := hu
    clear hu
    refine v_iconst F dX11_countMedian_21 ⟨by decide, by decide⟩ ?_
    refine v_istore_n F dX11_countMedian_22 rfl (Nat.le_of_ble_eq_true rfl) (L' := [mA 1545, mI 0, mU]) rfl ?_
    exact fX11_countMedian_23_ok F hX hp h K
  · rw [if_neg hq1] at h
    refine v_aload_n F dX11_countMedian_8 rfl rfl ?_
    refine gf_X11_896 F dX11_countMedian_9 hp (v := 1627) rfl ?_
    refine v_iload_n F dX11_countMedian_12 rfl rfl ?_
    refine v_iconst F dX11_countMedian_13 ⟨by decide, by decide⟩ ?_
    obtain ⟨hi42, h⟩ := ck_some h
    obtain ⟨d43, ed43, h⟩ := sd_some h
    refine v_iast F dX11_countMedian_14 (ar_X11_123 hX hp) hi42 ?_
    refine v_nD ed43 ?_
    obtain ⟨x44, ex44, h⟩ := lv_some h
    refine v_iincN F dX11_countMedian_15 (Nat.le_of_ble_eq_true rfl) rfl ex44 (L' := [mA 1545, mI x44, mU]) rfl ?_
    refine v_goto F dX11_countMedian_18 rfl ?_
    cases h
    exact K
theorem fX11_countMedian_2_ok {w : Wd} {l : Launch} {G : Cx} {d m dd : Dt} {v1 : Int} {d' : Dt} {x : Dt} (F : Fx w G cX11_countMedian RX11 3 none { frames := 2, cells := 0, slots := 0, locals := 48 }) (hX : WF dd m) (hp : PB m 1545 11) (h : fX11_countMedian_2 d v1 = some x) (K : (fun q => q = d') x) : V w l WF G (QM w G WF none d' m 0 0) d m 0 0 2 [mA 1545, mI v1, mU] [] := by
  unfold fX11_countMedian_2 at h
  exact loop_ok (P := fX11_countMedian_2P w l G (QM w G WF none d' m 0 0) m) (fun s x hx h1 h2 => fX11_countMedian_2f_ok F hX hp hx (by
    cases x with
    | inl s' => exact h1 s' rfl
    | inr z => cases h2 z rfl; exact K)) h
theorem vm_X11_countMedian {w : Wd} {l : Launch} {d m : Dt} {d' : Dt} (hp : PB m 1545 11) (h : fX11_countMedian d = some d') : VM w l WF yX11_countMedian cX11_countMedian 3 none 2 48 0 0 d m [mA 1545] none d' m := by
  obtain ⟨x, h, K⟩ : ∃ x, fX11_countMedian d = some x ∧ x = d' := ⟨_, h, rfl⟩
  refine VM.of (L := [mA 1545, mU, mU]) (by decide +kernel) rfl (Nat.le_of_ble_eq_true rfl) fun G F _ => v_fact fun _ hX _ _ => ?_
  unfold fX11_countMedian at h
  refine v_iconst F dX11_countMedian_0 ⟨by decide, by decide⟩ ?_
  refine v_istore_n F dX11_countMedian_1 rfl (Nat.le_of_ble_eq_true rfl) (L' := [mA 1545, mI 0, mU]) rfl ?_
  exact fX11_countMedian_2_ok F hX hp h K
def fX11_allIn_2P (w : Wd) (l : Launch) (G : Cx) (Q : State → Prop) (m : Dt) (s : Dt × Int) : Prop := V w l WF G Q s.1 m 0 0 2 [mA 1545, mI (s.2)] []
theorem fX11_allIn_29_ok {w : Wd} {l : Launch} {G : Cx} {d m dd : Dt} {v1 s1 s2 : Int} {d' : Dt} {x : ((Dt × Int) ⊕ Dt)} (F : Fx w G cX11_allIn RX11 2 none { frames := 0, cells := 0, slots := 0, locals := 0 }) (hX : WF dd m) (hp : PB m 1545 11) (h : fX11_allIn_29 d v1 s1 s2 = some x) (K : (Sum.elim (fX11_allIn_2P w l G (QM w G WF none d' m 0 0) m) (fun q => q = d')) x) : V w l WF G (QM w G WF none d' m 0 0) d m 0 0 29 [mA 1545, mI v1] [mI s2, mI s1, mA 1630] := by
  unfold fX11_allIn_29 at h
  obtain ⟨hi4, h⟩ := ck_some h
  obtain ⟨d5, ed5, h⟩ := sd_some h
  refine v_iast F dX11_allIn_29 (ar_X11_126 hX hp) hi4 ?_
  refine v_nD ed5 ?_
  obtain ⟨x6, ex6, h⟩ := lv_some h
  refine v_iincN F dX11_allIn_30 (Nat.le_of_ble_eq_true rfl) rfl ex6 (L' := [mA 1545, mI x6]) rfl ?_
  refine v_goto F dX11_allIn_33 rfl ?_
  cases h
  exact K
theorem fX11_allIn_2f_ok {w : Wd} {l : Launch} {G : Cx} {m dd : Dt} {d' : Dt} {s : Dt × Int} {x : ((Dt × Int) ⊕ Dt)} (F : Fx w G cX11_allIn RX11 2 none { frames := 0, cells := 0, slots := 0, locals := 0 }) (hX : WF dd m) (hp : PB m 1545 11) (h : fX11_allIn_2f s = some x) (K : (Sum.elim (fX11_allIn_2P w l G (QM w G WF none d' m 0 0) m) (fun q => q = d')) x) : V w l WF G (QM w G WF none d' m 0 0) s.1 m 0 0 2 [mA 1545, mI (s.2)] [] := by
  obtain ⟨d, v1⟩ := s
  unfold fX11_allIn_2f at h
  dsimp only at h
  refine v_iload_n F dX11_allIn_2 rfl rfl ?_
  refine v_aload_n F dX11_allIn_3 rfl rfl ?_
  refine gf_X11_755 F dX11_allIn_4 hp ?_
  refine v_icmp_ge F dX11_allIn_7 rfl (fun hq1 => ?_) (fun hq1 => ?_)
  · rw [if_pos hq1] at h
    obtain ⟨z, hu, ez⟩ := up_some h
    clear h
    subst ez
    have h := hu
    clear hu
    cases h
    cases (show _ = d' from K)
    exact v_vret F dX11_allIn_36
  · rw [if_neg hq1] at h
    refine v_aload_n F dX11_allIn_10 rfl rfl ?_
    refine gf_X11_909 F dX11_allIn_11 hp (v := 1630) rfl ?_
    refine v_iload_n F dX11_allIn_14 rfl rfl ?_
    refine v_aload_n F dX11_allIn_15 rfl rfl ?_
    refine gf_X11_764 F dX11_allIn_16 hp (v := 1617) rfl ?_
    refine v_iload_n F dX11_allIn_19 rfl rfl ?_
    obtain ⟨hi2, h⟩ := ck_some h
    refine v_zald F dX11_allIn_20 (ar_X11_101 hX hp) hi2 ?_
    refine v_if_eq F dX11_allIn_21 rfl (fun hq3 => ?_) (fun hq3 => ?_)
    · rw [if_pos hq3] at h
      refine v_iconst F dX11_allIn_28 ⟨by decide, by decide⟩ ?_
      exact fX11_allIn_29_ok F hX hp h K
    · rw [if_neg hq3] at h
      refine v_iconst F dX11_allIn_24 ⟨by decide, by decide⟩ ?_
      refine v_goto F dX11_allIn_25 rfl ?_
      exact fX11_allIn_29_ok F hX hp h K
theorem fX11_allIn_2_ok {w : Wd} {l : Launch} {G : Cx} {d m dd : Dt} {v1 : Int} {d' : Dt} {x : Dt} (F : Fx w G cX11_allIn RX11 2 none { frames := 0, cells := 0, slots := 0, locals := 0 }) (hX : WF dd m) (hp : PB m 1545 11) (h : fX11_allIn_2 d v1 = some x) (K : (fun q => q = d') x) : V w l WF G (QM w G WF none d' m 0 0) d m 0 0 2 [mA 1545, mI v1] [] := by
  unfold fX11_allIn_2 at h
  exact loop_ok (P := fX11_allIn_2P w l G (QM w G WF none d' m 0 0) m) (fun s x hx h1 h2 => fX11_allIn_2f_ok F hX hp hx (by
    cases x with
    | inl s' => exact h1 s' rfl
    | inr z => cases h2 z rfl; exact K)) h
theorem vm_X11_allIn {w : Wd} {l : Launch} {d m : Dt} {d' : Dt} (hp : PB m 1545 11) (h : fX11_allIn d = some d') : VM w l WF yX11_allIn cX11_allIn 2 none 0 0 0 0 d m [mA 1545] none d' m := by
  obtain ⟨x, h, K⟩ : ∃ x, fX11_allIn d = some x ∧ x = d' := ⟨_, h, rfl⟩
  refine VM.of (L := [mA 1545, mU]) (by decide +kernel) rfl (Nat.le_of_ble_eq_true rfl) fun G F _ => v_fact fun _ hX _ _ => ?_
  unfold fX11_allIn at h
  refine v_iconst F dX11_allIn_0 ⟨by decide, by decide⟩ ?_
  refine v_istore_n F dX11_allIn_1 rfl (Nat.le_of_ble_eq_true rfl) (L' := [mA 1545, mI 0]) rfl ?_
  exact fX11_allIn_2_ok F hX hp h K
def fX11_firstIn_2P (w : Wd) (l : Launch) (G : Cx) (Q : State → Prop) (m : Dt) (d : Dt) (a1 : Int) (s : Int) : Prop := V w l WF G Q d m 0 0 2 [mA 1545, mI a1, mI (s)] []
theorem fX11_firstIn_2f_ok {w : Wd} {l : Launch} {G : Cx} {d m dd : Dt} {a1 : Int} {r : Int} {s : Int} {x : ((Int) ⊕ Int)} (F : Fx w G cX11_firstIn RX11 3 (some .int) { frames := 0, cells := 0, slots := 0, locals := 0 }) (hX : WF dd m) (hp : PB m 1545 11) (h : fX11_firstIn_2f d a1 s = some x) (K : (Sum.elim (fX11_firstIn_2P w l G (QM w G WF (some (mI r)) d m 0 0) m d a1) (fun q => q = r)) x) : V w l WF G (QM w G WF (some (mI r)) d m 0 0) d m 0 0 2 [mA 1545, mI a1, mI (s)] [] := by
  obtain ⟨v2, rfl⟩ : ∃ z, z = s := ⟨s, rfl⟩
  unfold fX11_firstIn_2f at h
  dsimp only at h
  refine v_iload_n F dX11_firstIn_2 rfl rfl ?_
  refine v_aload_n F dX11_firstIn_3 rfl rfl ?_
  refine gf_X11_789 F dX11_firstIn_4 hp (v := 1620) rfl ?_
  refine v_iload_n F dX11_firstIn_7 rfl rfl ?_
  obtain ⟨hi1, h⟩ := ck_some h
  refine v_iald F dX11_firstIn_8 (ar_X11_107 hX hp) hi1 ?_
  refine v_icmp_ge F dX11_firstIn_9 rfl (fun hq2 => ?_) (fun hq2 => ?_)
  · rw [if_pos hq2] at h
    obtain ⟨z, hu, ez⟩ := up_some h
    clear h
    subst ez
    have h := hu
    clear hu
    refine v_iconst F dX11_firstIn_49 ⟨by decide, by decide⟩ ?_
    cases h
    cases (show _ = r from K)
    exact v_iret F dX11_firstIn_50
  · rw [if_neg hq2] at h
    refine v_aload_n F dX11_firstIn_12 rfl rfl ?_
    refine gf_X11_909 F dX11_firstIn_13 hp (v := 1630) rfl ?_
    refine v_aload_n F dX11_firstIn_16 rfl rfl ?_
    refine gf_X11_792 F dX11_firstIn_17 hp (v := 1619) rfl ?_
    refine v_bipush F dX11_firstIn_20 rfl ⟨by decide, by decide⟩ ?_
    refine v_iload_n F dX11_firstIn_22 rfl rfl ?_
    refine v_imul F dX11_firstIn_23 ?_
    refine v_iload_n F dX11_firstIn_24 rfl rfl ?_
    refine v_iadd F dX11_firstIn_25 ?_
    obtain ⟨x3, ex3, h⟩ := lv_some h
    refine v_nI ex3 ?_
    obtain ⟨hi4, h⟩ := ck_some h
    refine v_iald F dX11_firstIn_26 (ar_X11_106 hX hp) hi4 ?_
    obtain ⟨x5, ex5, h⟩ := lv_some h
    refine v_nI ex5 ?_
    obtain ⟨hi6, h⟩ := ck_some h
    refine v_iald F dX11_firstIn_27 (ar_X11_126 hX hp) hi6 ?_
    refine v_if_ne F dX11_firstIn_28 rfl (fun hq7 => ?_) (fun hq7 => ?_)
    · rw [if_neg hq7] at h
      obtain ⟨x8, ex8, h⟩ := lv_some h
      refine v_iincN F dX11_firstIn_43 (Nat.le_of_ble_eq_true rfl) rfl ex8 (L' := [mA 1545, mI a1, mI x8]) rfl ?_
      refine v_goto F dX11_firstIn_46 rfl ?_
      cases h
      exact K
    · rw [if_pos hq7] at h
      obtain ⟨z, hu, ez⟩ := up_some h
      clear h
      subst ez
      have h := hu
      clear hu
      refine v_aload_n F dX11_firstIn_31 rfl rfl ?_
      refine gf_X11_792 F dX11_firstIn_32 hp (v := 1619) rfl ?_
      refine v_bipush F dX11_firstIn_35 rfl ⟨by decide, by decide⟩ ?_
      refine v_iload_n F dX11_firstIn_37 rfl rfl ?_
      refine v_imul F dX11_firstIn_38 ?_
      refine v_iload_n F dX11_firstIn_39 rfl rfl ?_
      refine v_iadd F dX11_firstIn_40 ?_
      obtain ⟨x9, ex9, h⟩ := lv_some h
      refine v_nI ex9 ?_
      obtain ⟨hi10, h⟩ := ck_some h
      refine v_iald F dX11_firstIn_41 (ar_X11_106 hX hp) hi10 ?_
      cases h
      cases (show _ = r from K)
      exact v_iret F dX11_firstIn_42
theorem fX11_firstIn_2_ok {w : Wd} {l : Launch} {G : Cx} {d m dd : Dt} {a1 v2 : Int} {r : Int} {x : Int} (F : Fx w G cX11_firstIn RX11 3 (some .int) { frames := 0, cells := 0, slots := 0, locals := 0 }) (hX : WF dd m) (hp : PB m 1545 11) (h : fX11_firstIn_2 d a1 v2 = some x) (K : (fun q => q = r) x) : V w l WF G (QM w G WF (some (mI r)) d m 0 0) d m 0 0 2 [mA 1545, mI a1, mI v2] [] := by
  unfold fX11_firstIn_2 at h
  exact loop_ok (P := fX11_firstIn_2P w l G (QM w G WF (some (mI r)) d m 0 0) m d a1) (fun s x hx h1 h2 => fX11_firstIn_2f_ok F hX hp hx (by
    cases x with
    | inl s' => exact h1 s' rfl
    | inr z => cases h2 z rfl; exact K)) h
theorem vm_X11_firstIn {w : Wd} {l : Launch} {d m : Dt} {a1 : Int} {r : Int} (hp : PB m 1545 11) (h : fX11_firstIn d a1 = some r) : VM w l WF yX11_firstIn cX11_firstIn 3 (some .int) 0 0 0 0 d m [mA 1545, mI a1] (some (mI r)) d m := by
  obtain ⟨x, h, K⟩ : ∃ x, fX11_firstIn d a1 = some x ∧ x = r := ⟨_, h, rfl⟩
  refine VM.of (L := [mA 1545, mI a1, mU]) (by decide +kernel) rfl (Nat.le_of_ble_eq_true rfl) fun G F _ => v_fact fun _ hX _ _ => ?_
  unfold fX11_firstIn at h
  refine v_iconst F dX11_firstIn_0 ⟨by decide, by decide⟩ ?_
  refine v_istore_n F dX11_firstIn_1 rfl (Nat.le_of_ble_eq_true rfl) (L' := [mA 1545, mI a1, mI 0]) rfl ?_
  exact fX11_firstIn_2_ok F hX hp h K
def fX11_howManyIn_4P (w : Wd) (l : Launch) (G : Cx) (Q : State → Prop) (m : Dt) (d : Dt) (s : Int × Int) : Prop := V w l WF G Q d m 0 0 4 [mA 1545, mI (s.1), mI (s.2)] []
theorem fX11_howManyIn_27_ok {w : Wd} {l : Launch} {G : Cx} {d m dd : Dt} {v2 s0 s1 : Int} {r : Int} {x : ((Int × Int) ⊕ Int)} (F : Fx w G cX11_howManyIn RX11 3 (some .int) { frames := 0, cells := 0, slots := 0, locals := 0 }) (hX : WF dd m) (hp : PB m 1545 11) (h : fX11_howManyIn_27 d v2 s0 s1 = some x) (K : (Sum.elim (fX11_howManyIn_4P w l G (QM w G WF (some (mI r)) d m 0 0) m d) (fun q => q = r)) x) : V w l WF G (QM w G WF (some (mI r)) d m 0 0) d m 0 0 27 [mA 1545, mU, mI v2] [mI s1, mI s0] := by
  unfold fX11_howManyIn_27 at h
  refine v_iadd F dX11_howManyIn_27 ?_
  obtain ⟨x4, ex4, h⟩ := lv_some h
  refine v_nI ex4 ?_
  refine v_istore_n F dX11_howManyIn_28 rfl (Nat.le_of_ble_eq_true rfl) (L' := [mA 1545, mI x4, mI v2]) rfl ?_
  obtain ⟨x5, ex5, h⟩ := lv_some h
  refine v_iincN F dX11_howManyIn_29 (Nat.le_of_ble_eq_true rfl) rfl ex5 (L' := [mA 1545, mI x4, mI x5]) rfl ?_
  refine v_goto F dX11_howManyIn_32 rfl ?_
  cases h
  exact K
theorem fX11_howManyIn_4f_ok {w : Wd} {l : Launch} {G : Cx} {d m dd : Dt} {r : Int} {s : Int × Int} {x : ((Int × Int) ⊕ Int)} (F : Fx w G cX11_howManyIn RX11 3 (some .int) { frames := 0, cells := 0, slots := 0, locals := 0 }) (hX : WF dd m) (hp : PB m 1545 11) (h : fX11_howManyIn_4f d s = some x) (K : (Sum.elim (fX11_howManyIn_4P w l G (QM w G WF (some (mI r)) d m 0 0) m d) (fun q => q = r)) x) : V w l WF G (QM w G WF (some (mI r)) d m 0 0) d m 0 0 4 [mA 1545, mI (s.1), mI (s.2)] [] := by
  obtain ⟨v1, v2⟩ := s
  unfold fX11_howManyIn_4f at h
  dsimp only at h
  refine v_iload_n F dX11_howManyIn_4 rfl rfl ?_
  refine v_aload_n F dX11_howManyIn_5 rfl rfl ?_
  refine gf_X11_755 F dX11_howManyIn_6 hp ?_
  refine v_icmp_ge F dX11_howManyIn_9 rfl (fun hq1 => ?_) (fun hq1 => ?_)
  · rw [if_pos hq1] at h
    obtain ⟨z, hu, ez⟩ := up_some h
    clear h
    subst ez
    have h := hu
    clear hu
    refine v_iload_n F dX11_howManyIn_35 rfl rfl ?_
    cases h
    cases (show _ = r from K)
    exact v_iret F dX11_howManyIn_36
  · rw [if_neg hq1] at h
    refine v_iload_n F dX11_howManyIn_12 rfl rfl ?_
    refine v_aload_n F dX11_howManyIn_13 rfl rfl ?_
    refine gf_X11_909 F dX11_howManyIn_14 hp (v := 1630) rfl ?_
    refine v_iload_n F dX11_howManyIn_17 rfl rfl ?_
    obtain ⟨hi2, h⟩ := ck_some h
    refine v_iald F dX11_howManyIn_18 (ar_X11_126 hX hp) hi2 ?_
    refine v_if_ne F dX11_howManyIn_19 rfl (fun hq3 => ?_) (fun hq3 => ?_)
    · rw [if_neg hq3] at h
      refine v_iconst F dX11_howManyIn_26 ⟨by decide, by decide⟩ ?_
      refine v_fgt (L' := [mA 1545, mU, mI v2]) ⟨Or.inl rfl, Or.inr rfl, Or.inl rfl, trivial⟩ ?_
      exact fX11_howManyIn_27_ok F hX hp h K
    · rw [if_pos hq3] at h
      refine v_iconst F dX11_howManyIn_22 ⟨by decide, by decide⟩ ?_
      refine v_goto F dX11_howManyIn_23 rfl ?_
      refine v_fgt (L' := [mA 1545, mU, mI v2]) ⟨Or.inl rfl, Or.inr rfl, Or.inl rfl, trivial⟩ ?_
      exact fX11_howManyIn_27_ok F hX hp h K
theorem fX11_howManyIn_4_ok {w : Wd} {l : Launch} {G : Cx} {d m dd : Dt} {v1 v2 : Int} {r : Int} {x : Int} (F : Fx w G cX11_howManyIn RX11 3 (some .int) { frames := 0, cells := 0, slots := 0, locals := 0 }) (hX : WF dd m) (hp : PB m 1545 11) (h : fX11_howManyIn_4 d v1 v2 = some x) (K : (fun q => q = r) x) : V w l WF G (QM w G WF (some (mI r)) d m 0 0) d m 0 0 4 [mA 1545, mI v1, mI v2] [] := by
  unfold fX11_howManyIn_4 at h
  exact loop_ok (P := fX11_howManyIn_4P w l G (QM w G WF (some (mI r)) d m 0 0) m d) (fun s x hx h1 h2 => fX11_howManyIn_4f_ok F hX hp hx (by
    cases x with
    | inl s' => exact h1 s' rfl
    | inr z => cases h2 z rfl; exact K)) h
theorem vm_X11_howManyIn {w : Wd} {l : Launch} {d m : Dt} {r : Int} (hp : PB m 1545 11) (h : fX11_howManyIn d = some r) : VM w l WF yX11_howManyIn cX11_howManyIn 3 (some .int) 0 0 0 0 d m [mA 1545] (some (mI r)) d m := by
  obtain ⟨x, h, K⟩ : ∃ x, fX11_howManyIn d = some x ∧ x = r := ⟨_, h, rfl⟩
  refine VM.of (L := [mA 1545, mU, mU]) (by decide +kernel) rfl (Nat.le_of_ble_eq_true rfl) fun G F _ => v_fact fun _ hX _ _ => ?_
  unfold fX11_howManyIn at h
  refine v_iconst F dX11_howManyIn_0 ⟨by decide, by decide⟩ ?_
  refine v_istore_n F dX11_howManyIn_1 rfl (Nat.le_of_ble_eq_true rfl) (L' := [mA 1545, mI 0, mU]) rfl ?_
  refine v_iconst F dX11_howManyIn_2 ⟨by decide, by decide⟩ ?_
  refine v_istore_n F dX11_howManyIn_3 rfl (Nat.le_of_ble_eq_true rfl) (L' := [mA 1545, mI 0, mI 0]) rfl ?_
  exact fX11_howManyIn_4_ok F hX hp h K
def fX11_isWorse_8P (w : Wd) (l : Launch) (G : Cx) (Q : State → Prop) (m : Dt) (d : Dt) (a1 a2 a3 : Int) (s : Int) : Prop := V w l WF G Q d m 0 0 8 [mA 1545, mI a1, mI a2, mI a3, mI (s), mU, mU, mU, mU] []
theorem fX11_isWorse_84_ok {w : Wd} {l : Launch} {G : Cx} {d m dd : Dt} {a1 a2 a3 : Int} {r : Int} {x : Int} (F : Fx w G cX11_isWorse RX11 9 (some .boolean) { frames := 1, cells := 0, slots := 0, locals := 21 }) (hX : WF dd m) (hp : PB m 1545 11) (h : fX11_isWorse_84 d a1 a2 a3 = some x) (K : (fun q => q = r) x) : V w l WF G (QM w G WF (some (mI r)) d m 0 0) d m 0 0 84 [mA 1545, mI a1, mI a2, mU, mU, mU, mU, mU, mU] [] := by
  unfold fX11_isWorse_84 at h
  refine v_aload_n F dX11_isWorse_84 rfl rfl ?_
  refine v_iload_n F dX11_isWorse_85 rfl rfl ?_
  obtain ⟨x3, hc4, h⟩ := b1_some h
  refine v_callVv (c := 11) F dX11_isWorse_86 cv_X11_808 rfl (PB.ob hp hX (Nat.le_of_ble_eq_true rfl)) (Nat.le_of_ble_eq_true rfl) rfl (vm_X11_lot hp hc4) rfl (rOk.of rfl) ?_
  refine v_aload_n F dX11_isWorse_89 rfl rfl ?_
  refine v_iload_n F dX11_isWorse_90 rfl rfl ?_
  obtain ⟨x5, hc6, h⟩ := b1_some h
  refine v_callVv (c := 11) F dX11_isWorse_91 cv_X11_808 rfl (PB.ob hp hX (Nat.le_of_ble_eq_true rfl)) (Nat.le_of_ble_eq_true rfl) rfl (vm_X11_lot hp hc6) rfl (rOk.of rfl) ?_
  refine v_icmp_le F dX11_isWorse_94 rfl (fun hq7 => ?_) (fun hq7 => ?_)
  · rw [if_pos hq7] at h
    refine v_iconst F dX11_isWorse_101 ⟨by decide, by decide⟩ ?_
    cases h
    cases (show _ = r from K)
    exact v_zret F (Or.inl rfl) dX11_isWorse_102
  · rw [if_neg hq7] at h
    refine v_iconst F dX11_isWorse_97 ⟨by decide, by decide⟩ ?_
    refine v_goto F dX11_isWorse_98 rfl ?_
    cases h
    cases (show _ = r from K)
    exact v_zret F (Or.inr rfl) dX11_isWorse_102
theorem fX11_isWorse_28_ok {w : Wd} {l : Launch} {G : Cx} {d m dd : Dt} {a1 a2 a3 v4 : Int} {r : Int} {x : ((Int) ⊕ Int)} (F : Fx w G cX11_isWorse RX11 9 (some .boolean) { frames := 1, cells := 0, slots := 0, locals := 21 }) (hX : WF dd m) (hp : PB m 1545 11) (h : fX11_isWorse_28 d a1 a2 a3 v4 = some x) (K : (Sum.elim (fX11_isWorse_8P w l G (QM w G WF (some (mI r)) d m 0 0) m d a1 a2 a3) (fun q => q = r)) x) : V w l WF G (QM w G WF (some (mI r)) d m 0 0) d m 0 0 28 [mA 1545, mI a1, mI a2, mI a3, mI v4, mU, mU, mU, mU] [] := by
  unfold fX11_isWorse_28 at h
  refine v_aload_n F dX11_isWorse_28 rfl rfl ?_
  refine gf_X11_814 F dX11_isWorse_29 hp (v := 1623) rfl ?_
  refine v_bipush F dX11_isWorse_32 rfl ⟨by decide, by decide⟩ ?_
  refine v_iload F dX11_isWorse_34 rfl ?_
  refine v_imul F dX11_isWorse_36 ?_
  refine v_iload_n F dX11_isWorse_37 rfl rfl ?_
  refine v_iadd F dX11_isWorse_38 ?_
  obtain ⟨x9, ex9, h⟩ := lv_some h
  refine v_nI ex9 ?_
  obtain ⟨hi10, h⟩ := ck_some h
  refine v_lald F dX11_isWorse_39 (ar_X11_117 hX hp) hi10 ?_
  obtain ⟨x11, ex11, h⟩ := lv_some h
  refine v_nL ex11 ?_
  refine v_lstore F dX11_isWorse_40 (Nat.le_of_ble_eq_true rfl) (L' := [mA 1545, mI a1, mI a2, mI a3, mI v4, mL x11, mU, mU, mU]) rfl ?_
  refine v_aload_n F dX11_isWorse_42 rfl rfl ?_
  refine gf_X11_814 F dX11_isWorse_43 hp (v := 1623) rfl ?_
  refine v_bipush F dX11_isWorse_46 rfl ⟨by decide, by decide⟩ ?_
  refine v_iload F dX11_isWorse_48 rfl ?_
  refine v_imul F dX11_isWorse_50 ?_
  refine v_iload_n F dX11_isWorse_51 rfl rfl ?_
  refine v_iadd F dX11_isWorse_52 ?_
  obtain ⟨x12, ex12, h⟩ := lv_some h
  refine v_nI ex12 ?_
  obtain ⟨hi13, h⟩ := ck_some h
  refine v_lald F dX11_isWorse_53 (ar_X11_117 hX hp) hi13 ?_
  obtain ⟨x14, ex14, h⟩ := lv_some h
  refine v_nL ex14 ?_
  refine v_lstore F dX11_isWorse_54 (Nat.le_of_ble_eq_true rfl) (L' := [mA 1545, mI a1, mI a2, mI a3, mI v4, mL x11, mU, mL x14, mU]) rfl ?_
  refine v_lload F dX11_isWorse_56 rfl ?_
  refine v_lload F dX11_isWorse_58 rfl ?_
  refine v_lcmp F dX11_isWorse_60 ?_
  refine v_if_eq F dX11_isWorse_61 rfl (fun hq15 => ?_) (fun hq15 => ?_)
  · rw [if_pos hq15] at h
    obtain ⟨x16, ex16, h⟩ := lv_some h
    refine v_iincN F dX11_isWorse_78 (Nat.le_of_ble_eq_true rfl) rfl ex16 (L' := [mA 1545, mI a1, mI a2, mI a3, mI x16, mL x11, mU, mL x14, mU]) rfl ?_
    refine v_goto F dX11_isWorse_81 rfl ?_
    cases h
    refine v_fgt (L' := [mA 1545, mI a1, mI a2, mI a3, mI x16, mU, mU, mU, mU]) ⟨Or.inl rfl, Or.inl rfl, Or.inl rfl, Or.inl rfl, Or.inl rfl, Or.inr rfl, Or.inl rfl, Or.inr rfl, Or.inl rfl, trivial⟩ ?_
    exact K
  · rw [if_neg hq15] at h
    obtain ⟨z, hu, ez⟩ := up_some h
    clear h
    subst ez
    have h := hu
    clear hu
    refine v_lload F dX11_isWorse_64 rfl ?_
    refine v_lload F dX11_isWorse_66 rfl ?_
    refine v_lcmp F dX11_isWorse_68 ?_
    refine v_if_ge F dX11_isWorse_69 rfl (fun hq17 => ?_) (fun hq17 => ?_)
    · rw [if_pos hq17] at h
      refine v_iconst F dX11_isWorse_76 ⟨by decide, by decide⟩ ?_
      cases h
      cases (show _ = r from K)
      exact v_zret F (Or.inl rfl) dX11_isWorse_77
    · rw [if_neg hq17] at h
      refine v_iconst F dX11_isWorse_72 ⟨by decide, by decide⟩ ?_
      refine v_goto F dX11_isWorse_73 rfl ?_
      cases h
      cases (show _ = r from K)
      exact v_zret F (Or.inr rfl) dX11_isWorse_77
theorem fX11_isWorse_8f_ok {w : Wd} {l : Launch} {G : Cx} {d m dd : Dt} {a1 a2 a3 : Int} {r : Int} {s : Int} {x : ((Int) ⊕ Int)} (F : Fx w G cX11_isWorse RX11 9 (some .boolean) { frames := 1, cells := 0, slots := 0, locals := 21 }) (hX : WF dd m) (hp : PB m 1545 11) (h : fX11_isWorse_8f d a1 a2 a3 s = some x) (K : (Sum.elim (fX11_isWorse_8P w l G (QM w G WF (some (mI r)) d m 0 0) m d a1 a2 a3) (fun q => q = r)) x) : V w l WF G (QM w G WF (some (mI r)) d m 0 0) d m 0 0 8 [mA 1545, mI a1, mI a2, mI a3, mI (s), mU, mU, mU, mU] [] := by
  obtain ⟨v4, rfl⟩ : ∃ z, z = s := ⟨s, rfl⟩
  unfold fX11_isWorse_8f at h
  dsimp only at h
  refine v_iload F dX11_isWorse_8 rfl ?_
  refine v_if_lt F dX11_isWorse_10 rfl (fun hq2 => ?_) (fun hq2 => ?_)
  · rw [if_pos hq2] at h
    obtain ⟨z, hu, ez⟩ := up_some h
    clear h
    subst ez
    have h := hu
    clear hu
    refine v_fgt (L' := [mA 1545, mI a1, mI a2, mU, mU, mU, mU, mU, mU]) ⟨Or.inl rfl, Or.inl rfl, Or.inl rfl, Or.inr rfl, Or.inr rfl, Or.inl rfl, Or.inl rfl, Or.inl rfl, Or.inl rfl, trivial⟩ ?_
    exact fX11_isWorse_84_ok F hX hp h K
  · rw [if_neg hq2] at h
    refine v_iload_n F dX11_isWorse_13 rfl rfl ?_
    refine v_if_ne F dX11_isWorse_14 rfl (fun hq8 => ?_) (fun hq8 => ?_)
    · rw [if_neg hq8] at h
      exact fX11_isWorse_28_ok F hX hp h K
    · rw [if_pos hq8] at h
      refine v_iload F dX11_isWorse_17 rfl ?_
      refine v_aload_n F dX11_isWorse_19 rfl rfl ?_
      refine gf_X11_817 F dX11_isWorse_20 hp ?_
      refine v_iconst F dX11_isWorse_23 ⟨by decide, by decide⟩ ?_
      refine v_isub F dX11_isWorse_24 ?_
      refine v_icmp_ne F dX11_isWorse_25 rfl (fun hq18 => ?_) (fun hq18 => ?_)
      · rw [if_neg hq18] at h
        obtain ⟨z, hu, ez⟩ := up_some h
        clear h
        subst ez
        have h := hu
        clear hu
        refine v_fgt (L' := [mA 1545, mI a1, mI a2, mU, mU, mU, mU, mU, mU]) ⟨Or.inl rfl, Or.inl rfl, Or.inl rfl, Or.inr rfl, Or.inr rfl, Or.inl rfl, Or.inl rfl, Or.inl rfl, Or.inl rfl, trivial⟩ ?_
        exact fX11_isWorse_84_ok F hX hp h K
      · rw [if_pos hq18] at h
        exact fX11_isWorse_28_ok F hX hp h K
theorem fX11_isWorse_8_ok {w : Wd} {l : Launch} {G : Cx} {d m dd : Dt} {a1 a2 a3 v4 : Int} {r : Int} {x : Int} (F : Fx w G cX11_isWorse RX11 9 (some .boolean) { frames := 1, cells := 0, slots := 0, locals := 21 }) (hX : WF dd m) (hp : PB m 1545 11) (h : fX11_isWorse_8 d a1 a2 a3 v4 = some x) (K : (fun q => q = r) x) : V w l WF G (QM w G WF (some (mI r)) d m 0 0) d m 0 0 8 [mA 1545, mI a1, mI a2, mI a3, mI v4, mU, mU, mU, mU] [] := by
  unfold fX11_isWorse_8 at h
  exact loop_ok (P := fX11_isWorse_8P w l G (QM w G WF (some (mI r)) d m 0 0) m d a1 a2 a3) (fun s x hx h1 h2 => fX11_isWorse_8f_ok F hX hp hx (by
    cases x with
    | inl s' => exact h1 s' rfl
    | inr z => cases h2 z rfl; exact K)) h
theorem vm_X11_isWorse {w : Wd} {l : Launch} {d m : Dt} {a1 a2 a3 : Int} {r : Int} (hp : PB m 1545 11) (h : fX11_isWorse d a1 a2 a3 = some r) : VM w l WF yX11_isWorse cX11_isWorse 9 (some .boolean) 1 21 0 0 d m [mA 1545, mI a1, mI a2, mI a3] (some (mI r)) d m := by
  obtain ⟨x, h, K⟩ : ∃ x, fX11_isWorse d a1 a2 a3 = some x ∧ x = r := ⟨_, h, rfl⟩
  refine VM.of (L := [mA 1545, mI a1, mI a2, mI a3, mU, mU, mU, mU, mU]) (by decide +kernel) rfl (Nat.le_of_ble_eq_true rfl) fun G F _ => v_fact fun _ hX _ _ => ?_
  unfold fX11_isWorse at h
  refine v_aload_n F dX11_isWorse_0 rfl rfl ?_
  refine gf_X11_817 F dX11_isWorse_1 hp ?_
  refine v_iconst F dX11_isWorse_4 ⟨by decide, by decide⟩ ?_
  refine v_isub F dX11_isWorse_5 ?_
  obtain ⟨x1, ex1, h⟩ := lv_some h
  refine v_nI ex1 ?_
  refine v_istore F dX11_isWorse_6 (Nat.le_of_ble_eq_true rfl) (L' := [mA 1545, mI a1, mI a2, mI a3, mI x1, mU, mU, mU, mU]) rfl ?_
  exact fX11_isWorse_8_ok F hX hp h K
theorem vm_X11_acted {w : Wd} {l : Launch} {d m : Dt} {a1 a2 : Int} {d' : Dt} (hp : PB m 1545 11) (h : fX11_acted d a1 a2 = some d') : VM w l WF yX11_acted cX11_acted 3 none 0 0 0 0 d m [mA 1545, mI a1, mI a2] none d' m := by
  obtain ⟨x, h, K⟩ : ∃ x, fX11_acted d a1 a2 = some x ∧ x = d' := ⟨_, h, rfl⟩
  refine VM.of (L := [mA 1545, mI a1, mI a2]) (by decide +kernel) rfl (Nat.le_of_ble_eq_true rfl) fun G F _ => v_fact fun _ hX _ _ => ?_
  unfold fX11_acted at h
  refine v_aload_n F dX11_acted_0 rfl rfl ?_
  refine gf_X11_820 F dX11_acted_1 hp (v := 1624) rfl ?_
  refine v_aload_n F dX11_acted_4 rfl rfl ?_
  refine gf_X11_817 F dX11_acted_5 hp ?_
  refine v_iconst F dX11_acted_8 ⟨by decide, by decide⟩ ?_
  refine v_isub F dX11_acted_9 ?_
  refine v_iload_n F dX11_acted_10 rfl rfl ?_
  obtain ⟨x1, ex1, h⟩ := lv_some h
  refine v_n2 ex1 ?_
  obtain ⟨hi2, h⟩ := ck_some h
  obtain ⟨d3, ed3, h⟩ := sd_some h
  refine v_iast F dX11_acted_11 (ar_X11_118 hX hp) hi2 ?_
  refine v_nD ed3 ?_
  refine v_aload_n F dX11_acted_12 rfl rfl ?_
  refine gf_X11_823 F dX11_acted_13 hp (v := 1625) rfl ?_
  refine v_aload_n F dX11_acted_16 rfl rfl ?_
  refine gf_X11_817 F dX11_acted_17 hp ?_
  refine v_iconst F dX11_acted_20 ⟨by decide, by decide⟩ ?_
  refine v_isub F dX11_acted_21 ?_
  refine v_iload_n F dX11_acted_22 rfl rfl ?_
  obtain ⟨x4, ex4, h⟩ := lv_some h
  refine v_n2 ex4 ?_
  obtain ⟨hi5, h⟩ := ck_some h
  obtain ⟨d6, ed6, h⟩ := sd_some h
  refine v_iast F dX11_acted_23 (ar_X11_119 hX hp) hi5 ?_
  refine v_nD ed6 ?_
  cases h
  cases (show _ = d' from K)
  exact v_vret F dX11_acted_24
def fX11_goesOut_4P (w : Wd) (l : Launch) (G : Cx) (Q : State → Prop) (m : Dt) (d : Dt) (a1 : Int) (s : Int × Int) : Prop := V w l WF G Q d m 0 0 4 [mA 1545, mI a1, mI (s.1), mI (s.2)] []
theorem fX11_goesOut_4f_ok {w : Wd} {l : Launch} {G : Cx} {d m dd : Dt} {a1 : Int} {d' : Dt} {r : Int} {s : Int × Int} {x : ((Int × Int) ⊕ (Dt × Int))} (F : Fx w G cX11_goesOut RX11 4 (some .int) { frames := 2, cells := 0, slots := 0, locals := 49 }) (hX : WF dd m) (hp : PB m 1545 11) (h : fX11_goesOut_4f d a1 s = some x) (K : (Sum.elim (fX11_goesOut_4P w l G (QM w G WF (some (mI r)) d' m 0 0) m d a1) (fun q => q = (d', r))) x) : V w l WF G (QM w G WF (some (mI r)) d' m 0 0) d m 0 0 4 [mA 1545, mI a1, mI (s.1), mI (s.2)] [] := by
  obtain ⟨v2, v3⟩ := s
  unfold fX11_goesOut_4f at h
  dsimp only at h
  refine v_iload_n F dX11_goesOut_4 rfl rfl ?_
  refine v_aload_n F dX11_goesOut_5 rfl rfl ?_
  refine gf_X11_755 F dX11_goesOut_6 hp ?_
  refine v_icmp_ge F dX11_goesOut_9 rfl (fun hq1 => ?_) (fun hq1 => ?_)
  · rw [if_pos hq1] at h
    obtain ⟨z, hu, ez⟩ := up_some h
    clear h
    subst ez
    have h := hu
    clear hu
    refine v_aload_n F dX11_goesOut_43 rfl rfl ?_
    refine gf_X11_909 F dX11_goesOut_44 hp (v := 1630) rfl ?_
    refine v_iload_n F dX11_goesOut_47 rfl rfl ?_
    refine v_iconst F dX11_goesOut_48 ⟨by decide, by decide⟩ ?_
    obtain ⟨hi2, h⟩ := ck_some h
    obtain ⟨d3, ed3, h⟩ := sd_some h
    refine v_iast F dX11_goesOut_49 (ar_X11_126 hX hp) hi2 ?_
    refine v_nD ed3 ?_
    refine v_aload_n F dX11_goesOut_50 rfl rfl ?_
    refine v_iconst F dX11_goesOut_51 ⟨by decide, by decide⟩ ?_
    refine v_iload_n F dX11_goesOut_52 rfl rfl ?_
    obtain ⟨d4, hc5, h⟩ := bd_some h
    refine v_callV0 (c := 11) F dX11_goesOut_53 cv_X11_915 rfl (PB.ob hp hX (Nat.le_of_ble_eq_true rfl)) (Nat.le_of_ble_eq_true rfl) rfl (vm_X11_acted hp hc5) rfl (rOk.of rfl) ?_
    refine v_iload_n F dX11_goesOut_56 rfl rfl ?_
    cases h
    cases (show _ = (d', r) from K)
    exact v_iret F dX11_goesOut_57
  · rw [if_neg hq1] at h
    refine v_aload_n F dX11_goesOut_12 rfl rfl ?_
    refine gf_X11_909 F dX11_goesOut_13 hp (v := 1630) rfl ?_
    refine v_iload_n F dX11_goesOut_16 rfl rfl ?_
    obtain ⟨hi6, h⟩ := ck_some h
    refine v_iald F dX11_goesOut_17 (ar_X11_126 hX hp) hi6 ?_
    refine v_if_ne F dX11_goesOut_18 rfl (fun hq7 => ?_) (fun hq7 => ?_)
    · rw [if_neg hq7] at h
      obtain ⟨x8, ex8, h⟩ := lv_some h
      refine v_iincN F dX11_goesOut_37 (Nat.le_of_ble_eq_true rfl) rfl ex8 (L' := [mA 1545, mI a1, mI v2, mI x8]) rfl ?_
      refine v_goto F dX11_goesOut_40 rfl ?_
      cases h
      exact K
    · rw [if_pos hq7] at h
      refine v_iload_n F dX11_goesOut_21 rfl rfl ?_
      refine v_if_lt F dX11_goesOut_22 rfl (fun hq9 => ?_) (fun hq9 => ?_)
      · rw [if_pos hq9] at h
        refine v_iload_n F dX11_goesOut_35 rfl rfl ?_
        refine v_istore_n F dX11_goesOut_36 rfl (Nat.le_of_ble_eq_true rfl) (L' := [mA 1545, mI a1, mI v3, mI v3]) rfl ?_
        obtain ⟨x10, ex10, h⟩ := lv_some h
        refine v_iincN F dX11_goesOut_37 (Nat.le_of_ble_eq_true rfl) rfl ex10 (L' := [mA 1545, mI a1, mI v3, mI x10]) rfl ?_
        refine v_goto F dX11_goesOut_40 rfl ?_
        cases h
        exact K
      · rw [if_neg hq9] at h
        refine v_aload_n F dX11_goesOut_25 rfl rfl ?_
        refine v_iload_n F dX11_goesOut_26 rfl rfl ?_
        refine v_iload_n F dX11_goesOut_27 rfl rfl ?_
        refine v_iload_n F dX11_goesOut_28 rfl rfl ?_
        obtain ⟨x11, hc12, h⟩ := b1_some h
        refine v_callVv (c := 11) F dX11_goesOut_29 cv_X11_912 rfl (PB.ob hp hX (Nat.le_of_ble_eq_true rfl)) (Nat.le_of_ble_eq_true rfl) rfl (vm_X11_isWorse hp hc12) rfl (rOk.of rfl) ?_
        refine v_if_eq F dX11_goesOut_32 rfl (fun hq13 => ?_) (fun hq13 => ?_)
        · rw [if_pos hq13] at h
          obtain ⟨x14, ex14, h⟩ := lv_some h
          refine v_iincN F dX11_goesOut_37 (Nat.le_of_ble_eq_true rfl) rfl ex14 (L' := [mA 1545, mI a1, mI v2, mI x14]) rfl ?_
          refine v_goto F dX11_goesOut_40 rfl ?_
          cases h
          exact K
        · rw [if_neg hq13] at h
          refine v_iload_n F dX11_goesOut_35 rfl rfl ?_
          refine v_istore_n F dX11_goesOut_36 rfl (Nat.le_of_ble_eq_true rfl) (L' := [mA 1545, mI a1, mI v3, mI v3]) rfl ?_
          obtain ⟨x15, ex15, h⟩ := lv_some h
          refine v_iincN F dX11_goesOut_37 (Nat.le_of_ble_eq_true rfl) rfl ex15 (L' := [mA 1545, mI a1, mI v3, mI x15]) rfl ?_
          refine v_goto F dX11_goesOut_40 rfl ?_
          cases h
          exact K
theorem fX11_goesOut_4_ok {w : Wd} {l : Launch} {G : Cx} {d m dd : Dt} {a1 v2 v3 : Int} {d' : Dt} {r : Int} {x : (Dt × Int)} (F : Fx w G cX11_goesOut RX11 4 (some .int) { frames := 2, cells := 0, slots := 0, locals := 49 }) (hX : WF dd m) (hp : PB m 1545 11) (h : fX11_goesOut_4 d a1 v2 v3 = some x) (K : (fun q => q = (d', r)) x) : V w l WF G (QM w G WF (some (mI r)) d' m 0 0) d m 0 0 4 [mA 1545, mI a1, mI v2, mI v3] [] := by
  unfold fX11_goesOut_4 at h
  exact loop_ok (P := fX11_goesOut_4P w l G (QM w G WF (some (mI r)) d' m 0 0) m d a1) (fun s x hx h1 h2 => fX11_goesOut_4f_ok F hX hp hx (by
    cases x with
    | inl s' => exact h1 s' rfl
    | inr z => cases h2 z rfl; exact K)) h
theorem vm_X11_goesOut {w : Wd} {l : Launch} {d m : Dt} {a1 : Int} {d' : Dt} {r : Int} (hp : PB m 1545 11) (h : fX11_goesOut d a1 = some (d', r)) : VM w l WF yX11_goesOut cX11_goesOut 4 (some .int) 2 49 0 0 d m [mA 1545, mI a1] (some (mI r)) d' m := by
  obtain ⟨x, h, K⟩ : ∃ x, fX11_goesOut d a1 = some x ∧ x = (d', r) := ⟨_, h, rfl⟩
  refine VM.of (L := [mA 1545, mI a1, mU, mU]) (by decide +kernel) rfl (Nat.le_of_ble_eq_true rfl) fun G F _ => v_fact fun _ hX _ _ => ?_
  unfold fX11_goesOut at h
  refine v_iconst F dX11_goesOut_0 ⟨by decide, by decide⟩ ?_
  refine v_istore_n F dX11_goesOut_1 rfl (Nat.le_of_ble_eq_true rfl) (L' := [mA 1545, mI a1, mI (-1), mU]) rfl ?_
  refine v_iconst F dX11_goesOut_2 ⟨by decide, by decide⟩ ?_
  refine v_istore_n F dX11_goesOut_3 rfl (Nat.le_of_ble_eq_true rfl) (L' := [mA 1545, mI a1, mI (-1), mI 0]) rfl ?_
  exact fX11_goesOut_4_ok F hX hp h K
def fX11_electFrom_2P (w : Wd) (l : Launch) (G : Cx) (Q : State → Prop) (m : Dt) (a1 : Int) (s : Dt × Int) : Prop := V w l WF G Q s.1 m 0 0 2 [mA 1545, mL a1, mU, mI (s.2), mU, mU] []
def fX11_electFrom_19P (w : Wd) (l : Launch) (G : Cx) (Q : State → Prop) (m : Dt) (d : Dt) (a1 v3 : Int) (s : Int × Int) : Prop := V w l WF G Q d m 0 0 19 [mA 1545, mL a1, mU, mI v3, mI (s.1), mI (s.2)] []
theorem fX11_electFrom_19f_ok {w : Wd} {l : Launch} {G : Cx} {d m dd : Dt} {a1 v3 : Int} {d' : Dt} {r : Int} {s : Int × Int} {x : ((Int × Int) ⊕ ((Dt × Int) ⊕ (Dt × Int)))} (F : Fx w G cX11_electFrom RX11 6 (some .int) { frames := 1, cells := 0, slots := 0, locals := 21 }) (hX : WF dd m) (hp : PB m 1545 11) (h : fX11_electFrom_19f d a1 v3 s = some x) (K : (Sum.elim (fX11_electFrom_19P w l G (QM w G WF (some (mI r)) d' m 0 0) m d a1 v3) (Sum.elim (fX11_electFrom_2P w l G (QM w G WF (some (mI r)) d' m 0 0) m a1) (fun q => q = (d', r)))) x) : V w l WF G (QM w G WF (some (mI r)) d' m 0 0) d m 0 0 19 [mA 1545, mL a1, mU, mI v3, mI (s.1), mI (s.2)] [] := by
  obtain ⟨v4, v5⟩ := s
  unfold fX11_electFrom_19f at h
  dsimp only at h
  refine v_iload F dX11_electFrom_19 rfl ?_
  refine v_aload_n F dX11_electFrom_21 rfl rfl ?_
  refine gf_X11_755 F dX11_electFrom_22 hp ?_
  refine v_icmp_ge F dX11_electFrom_25 rfl (fun hq2 => ?_) (fun hq2 => ?_)
  · rw [if_pos hq2] at h
    obtain ⟨z, hu, ez⟩ := up_some h
    clear h
    subst ez
    have h := hu
    clear hu
    refine v_iload F dX11_electFrom_119 rfl ?_
    refine v_if_ge F dX11_electFrom_121 rfl (fun hq3 => ?_) (fun hq3 => ?_)
    · rw [if_pos hq3] at h
      refine v_aload_n F dX11_electFrom_126 rfl rfl ?_
      refine gf_X11_909 F dX11_electFrom_127 hp (v := 1630) rfl ?_
      refine v_iload F dX11_electFrom_130 rfl ?_
      refine v_iconst F dX11_electFrom_132 ⟨by decide, by decide⟩ ?_
      obtain ⟨hi4, h⟩ := ck_some h
      obtain ⟨d5, ed5, h⟩ := sd_some h
      refine v_iast F dX11_electFrom_133 (ar_X11_126 hX hp) hi4 ?_
      refine v_nD ed5 ?_
      refine v_aload_n F dX11_electFrom_134 rfl rfl ?_
      refine v_iload F dX11_electFrom_135 rfl ?_
      obtain ⟨d6, hc7, h⟩ := bd_some h
      refine v_callV0 (c := 11) F dX11_electFrom_137 cv_X11_832 rfl (PB.ob hp hX (Nat.le_of_ble_eq_true rfl)) (Nat.le_of_ble_eq_true rfl) rfl (vm_X11_win hp hc7) rfl (rOk.of rfl) ?_
      obtain ⟨x8, ex8, h⟩ := lv_some h
      refine v_iincN F dX11_electFrom_140 (Nat.le_of_ble_eq_true rfl) rfl ex8 (L' := [mA 1545, mL a1, mU, mI x8, mI v4, mI v5]) rfl ?_
      refine v_goto F dX11_electFrom_143 rfl ?_
      cases h
      refine v_fgt (L' := [mA 1545, mL a1, mU, mI x8, mU, mU]) ⟨Or.inl rfl, Or.inl rfl, Or.inl rfl, Or.inl rfl, Or.inr rfl, Or.inr rfl, trivial⟩ ?_
      exact K
    · rw [if_neg hq3] at h
      obtain ⟨z, hu, ez⟩ := up_some h
      clear h
      subst ez
      have h := hu
      clear hu
      refine v_iload_n F dX11_electFrom_124 rfl rfl ?_
      cases h
      cases (show _ = (d', r) from K)
      exact v_iret F dX11_electFrom_125
  · rw [if_neg hq2] at h
    refine v_aload_n F dX11_electFrom_28 rfl rfl ?_
    refine gf_X11_909 F dX11_electFrom_29 hp (v := 1630) rfl ?_
    refine v_iload F dX11_electFrom_32 rfl ?_
    obtain ⟨hi9, h⟩ := ck_some h
    refine v_iald F dX11_electFrom_34 (ar_X11_126 hX hp) hi9 ?_
    refine v_if_ne F dX11_electFrom_35 rfl (fun hq10 => ?_) (fun hq10 => ?_)
    · rw [if_neg hq10] at h
      obtain ⟨x11, ex11, h⟩ := lv_some h
      refine v_iincN F dX11_electFrom_113 (Nat.le_of_ble_eq_true rfl) rfl ex11 (L' := [mA 1545, mL a1, mU, mI v3, mI v4, mI x11]) rfl ?_
      refine v_goto F dX11_electFrom_116 rfl ?_
      cases h
      exact K
    · rw [if_pos hq10] at h
      refine v_aload_n F dX11_electFrom_38 rfl rfl ?_
      refine gf_X11_801 F dX11_electFrom_39 hp (v := 1621) rfl ?_
      refine v_iload F dX11_electFrom_42 rfl ?_
      refine v_lald F dX11_electFrom_44 (ar_X11_108 hX hp) hi9 ?_
      refine v_lload_n F dX11_electFrom_45 rfl rfl ?_
      refine v_lcmp F dX11_electFrom_46 ?_
      refine v_if_ge F dX11_electFrom_47 rfl (fun hq12 => ?_) (fun hq12 => ?_)
      · rw [if_pos hq12] at h
        refine v_iload F dX11_electFrom_53 rfl ?_
        refine v_if_lt F dX11_electFrom_55 rfl (fun hq13 => ?_) (fun hq13 => ?_)
        · rw [if_pos hq13] at h
          refine v_iload F dX11_electFrom_109 rfl ?_
          refine v_istore F dX11_electFrom_111 (Nat.le_of_ble_eq_true rfl) (L' := [mA 1545, mL a1, mU, mI v3, mI v5, mI v5]) rfl ?_
          obtain ⟨x14, ex14, h⟩ := lv_some h
          refine v_iincN F dX11_electFrom_113 (Nat.le_of_ble_eq_true rfl) rfl ex14 (L' := [mA 1545, mL a1, mU, mI v3, mI v5, mI x14]) rfl ?_
          refine v_goto F dX11_electFrom_116 rfl ?_
          cases h
          exact K
        · rw [if_neg hq13] at h
          refine v_aload_n F dX11_electFrom_58 rfl rfl ?_
          refine gf_X11_801 F dX11_electFrom_59 hp (v := 1621) rfl ?_
          refine v_iload F dX11_electFrom_62 rfl ?_
          refine v_lald F dX11_electFrom_64 (ar_X11_108 hX hp) hi9 ?_
          refine v_aload_n F dX11_electFrom_65 rfl rfl ?_
          refine gf_X11_801 F dX11_electFrom_66 hp (v := 1621) rfl ?_
          refine v_iload F dX11_electFrom_69 rfl ?_
          obtain ⟨hi15, h⟩ := ck_some h
          refine v_lald F dX11_electFrom_71 (ar_X11_108 hX hp) hi15 ?_
          refine v_lcmp F dX11_electFrom_72 ?_
          refine v_if_gt F dX11_electFrom_73 rfl (fun hq16 => ?_) (fun hq16 => ?_)
          · rw [if_pos hq16] at h
            refine v_iload F dX11_electFrom_109 rfl ?_
            refine v_istore F dX11_electFrom_111 (Nat.le_of_ble_eq_true rfl) (L' := [mA 1545, mL a1, mU, mI v3, mI v5, mI v5]) rfl ?_
            obtain ⟨x17, ex17, h⟩ := lv_some h
            refine v_iincN F dX11_electFrom_113 (Nat.le_of_ble_eq_true rfl) rfl ex17 (L' := [mA 1545, mL a1, mU, mI v3, mI v5, mI x17]) rfl ?_
            refine v_goto F dX11_electFrom_116 rfl ?_
            cases h
            exact K
          · rw [if_neg hq16] at h
            refine v_aload_n F dX11_electFrom_76 rfl rfl ?_
            refine gf_X11_801 F dX11_electFrom_77 hp (v := 1621) rfl ?_
            refine v_iload F dX11_electFrom_80 rfl ?_
            refine v_lald F dX11_electFrom_82 (ar_X11_108 hX hp) hi9 ?_
            refine v_aload_n F dX11_electFrom_83 rfl rfl ?_
            refine gf_X11_801 F dX11_electFrom_84 hp (v := 1621) rfl ?_
            refine v_iload F dX11_electFrom_87 rfl ?_
            refine v_lald F dX11_electFrom_89 (ar_X11_108 hX hp) hi15 ?_
            refine v_lcmp F dX11_electFrom_90 ?_
            refine v_if_ne F dX11_electFrom_91 rfl (fun hq18 => ?_) (fun hq18 => ?_)
            · rw [if_neg hq18] at h
              obtain ⟨x19, ex19, h⟩ := lv_some h
              refine v_iincN F dX11_electFrom_113 (Nat.le_of_ble_eq_true rfl) rfl ex19 (L' := [mA 1545, mL a1, mU, mI v3, mI v4, mI x19]) rfl ?_
              refine v_goto F dX11_electFrom_116 rfl ?_
              cases h
              exact K
            · rw [if_pos hq18] at h
              refine v_aload_n F dX11_electFrom_94 rfl rfl ?_
              refine v_iload F dX11_electFrom_95 rfl ?_
              obtain ⟨x20, hc21, h⟩ := b1_some h
              refine v_callVv (c := 11) F dX11_electFrom_97 cv_X11_808 rfl (PB.ob hp hX (Nat.le_of_ble_eq_true rfl)) (Nat.le_of_ble_eq_true rfl) rfl (vm_X11_lot hp hc21) rfl (rOk.of rfl) ?_
              refine v_aload_n F dX11_electFrom_100 rfl rfl ?_
              refine v_iload F dX11_electFrom_101 rfl ?_
              obtain ⟨x22, hc23, h⟩ := b1_some h
              refine v_callVv (c := 11) F dX11_electFrom_103 cv_X11_808 rfl (PB.ob hp hX (Nat.le_of_ble_eq_true rfl)) (Nat.le_of_ble_eq_true rfl) rfl (vm_X11_lot hp hc23) rfl (rOk.of rfl) ?_
              refine v_icmp_ge F dX11_electFrom_106 rfl (fun hq24 => ?_) (fun hq24 => ?_)
              · rw [if_pos hq24] at h
                obtain ⟨x25, ex25, h⟩ := lv_some h
                refine v_iincN F dX11_electFrom_113 (Nat.le_of_ble_eq_true rfl) rfl ex25 (L' := [mA 1545, mL a1, mU, mI v3, mI v4, mI x25]) rfl ?_
                refine v_goto F dX11_electFrom_116 rfl ?_
                cases h
                exact K
              · rw [if_neg hq24] at h
                refine v_iload F dX11_electFrom_109 rfl ?_
                refine v_istore F dX11_electFrom_111 (Nat.le_of_ble_eq_true rfl) (L' := [mA 1545, mL a1, mU, mI v3, mI v5, mI v5]) rfl ?_
                obtain ⟨x26, ex26, h⟩ := lv_some h
                refine v_iincN F dX11_electFrom_113 (Nat.le_of_ble_eq_true rfl) rfl ex26 (L' := [mA 1545, mL a1, mU, mI v3, mI v5, mI x26]) rfl ?_
                refine v_goto F dX11_electFrom_116 rfl ?_
                cases h
                exact K
      · rw [if_neg hq12] at h
        refine v_goto F dX11_electFrom_50 rfl ?_
        obtain ⟨x27, ex27, h⟩ := lv_some h
        refine v_iincN F dX11_electFrom_113 (Nat.le_of_ble_eq_true rfl) rfl ex27 (L' := [mA 1545, mL a1, mU, mI v3, mI v4, mI x27]) rfl ?_
        refine v_goto F dX11_electFrom_116 rfl ?_
        cases h
        exact K
theorem fX11_electFrom_19_ok {w : Wd} {l : Launch} {G : Cx} {d m dd : Dt} {a1 v3 v4 v5 : Int} {d' : Dt} {r : Int} {x : ((Dt × Int) ⊕ (Dt × Int))} (F : Fx w G cX11_electFrom RX11 6 (some .int) { frames := 1, cells := 0, slots := 0, locals := 21 }) (hX : WF dd m) (hp : PB m 1545 11) (h : fX11_electFrom_19 d a1 v3 v4 v5 = some x) (K : (Sum.elim (fX11_electFrom_2P w l G (QM w G WF (some (mI r)) d' m 0 0) m a1) (fun q => q = (d', r))) x) : V w l WF G (QM w G WF (some (mI r)) d' m 0 0) d m 0 0 19 [mA 1545, mL a1, mU, mI v3, mI v4, mI v5] [] := by
  unfold fX11_electFrom_19 at h
  exact loop_ok (P := fX11_electFrom_19P w l G (QM w G WF (some (mI r)) d' m 0 0) m d a1 v3) (fun s x hx h1 h2 => fX11_electFrom_19f_ok F hX hp hx (by
    cases x with
    | inl s' => exact h1 s' rfl
    | inr z => cases h2 z rfl; exact K)) h
theorem fX11_electFrom_2f_ok {w : Wd} {l : Launch} {G : Cx} {m dd : Dt} {a1 : Int} {d' : Dt} {r : Int} {s : Dt × Int} {x : ((Dt × Int) ⊕ (Dt × Int))} (F : Fx w G cX11_electFrom RX11 6 (some .int) { frames := 1, cells := 0, slots := 0, locals := 21 }) (hX : WF dd m) (hp : PB m 1545 11) (h : fX11_electFrom_2f a1 s = some x) (K : (Sum.elim (fX11_electFrom_2P w l G (QM w G WF (some (mI r)) d' m 0 0) m a1) (fun q => q = (d', r))) x) : V w l WF G (QM w G WF (some (mI r)) d' m 0 0) s.1 m 0 0 2 [mA 1545, mL a1, mU, mI (s.2), mU, mU] [] := by
  obtain ⟨d, v3⟩ := s
  unfold fX11_electFrom_2f at h
  dsimp only at h
  refine v_aload_n F dX11_electFrom_2 rfl rfl ?_
  refine gf_X11_829 F dX11_electFrom_3 hp ?_
  refine v_aload_n F dX11_electFrom_6 rfl rfl ?_
  refine gf_X11_758 F dX11_electFrom_7 hp ?_
  refine v_icmp_ge F dX11_electFrom_10 rfl (fun hq1 => ?_) (fun hq1 => ?_)
  · rw [if_pos hq1] at h
    obtain ⟨z, hu, ez⟩ := up_some h
    clear h
    subst ez
    have h := hu
    clear hu
    refine v_iload_n F dX11_electFrom_146 rfl rfl ?_
    cases h
    cases (show _ = (d', r) from K)
    exact v_iret F dX11_electFrom_147
  · rw [if_neg hq1] at h
    refine v_iconst F dX11_electFrom_13 ⟨by decide, by decide⟩ ?_
    refine v_istore F dX11_electFrom_14 (Nat.le_of_ble_eq_true rfl) (L' := [mA 1545, mL a1, mU, mI v3, mI (-1), mU]) rfl ?_
    refine v_iconst F dX11_electFrom_16 ⟨by decide, by decide⟩ ?_
    refine v_istore F dX11_electFrom_17 (Nat.le_of_ble_eq_true rfl) (L' := [mA 1545, mL a1, mU, mI v3, mI (-1), mI 0]) rfl ?_
    exact fX11_electFrom_19_ok F hX hp h K
theorem fX11_electFrom_2_ok {w : Wd} {l : Launch} {G : Cx} {d m dd : Dt} {a1 v3 : Int} {d' : Dt} {r : Int} {x : (Dt × Int)} (F : Fx w G cX11_electFrom RX11 6 (some .int) { frames := 1, cells := 0, slots := 0, locals := 21 }) (hX : WF dd m) (hp : PB m 1545 11) (h : fX11_electFrom_2 d a1 v3 = some x) (K : (fun q => q = (d', r)) x) : V w l WF G (QM w G WF (some (mI r)) d' m 0 0) d m 0 0 2 [mA 1545, mL a1, mU, mI v3, mU, mU] [] := by
  unfold fX11_electFrom_2 at h
  exact loop_ok (P := fX11_electFrom_2P w l G (QM w G WF (some (mI r)) d' m 0 0) m a1) (fun s x hx h1 h2 => fX11_electFrom_2f_ok F hX hp hx (by
    cases x with
    | inl s' => exact h1 s' rfl
    | inr z => cases h2 z rfl; exact K)) h
theorem vm_X11_electFrom {w : Wd} {l : Launch} {d m : Dt} {a1 : Int} {d' : Dt} {r : Int} (hp : PB m 1545 11) (h : fX11_electFrom d a1 = some (d', r)) : VM w l WF yX11_electFrom cX11_electFrom 6 (some .int) 1 21 0 0 d m [mA 1545, mL a1] (some (mI r)) d' m := by
  obtain ⟨x, h, K⟩ : ∃ x, fX11_electFrom d a1 = some x ∧ x = (d', r) := ⟨_, h, rfl⟩
  refine VM.of (L := [mA 1545, mL a1, mU, mU, mU, mU]) (by decide +kernel) rfl (Nat.le_of_ble_eq_true rfl) fun G F _ => v_fact fun _ hX _ _ => ?_
  unfold fX11_electFrom at h
  refine v_iconst F dX11_electFrom_0 ⟨by decide, by decide⟩ ?_
  refine v_istore_n F dX11_electFrom_1 rfl (Nat.le_of_ble_eq_true rfl) (L' := [mA 1545, mL a1, mU, mI 0, mU, mU]) rfl ?_
  exact fX11_electFrom_2_ok F hX hp h K
def fX11_countOut_6P (w : Wd) (l : Launch) (G : Cx) (Q : State → Prop) (m : Dt) (s : Dt × Int) : Prop := V w l WF G Q s.1 m 0 0 6 [mA 1545, mI (s.2), mU, mU] []
def fX11_countOut_16P (w : Wd) (l : Launch) (G : Cx) (Q : State → Prop) (m : Dt) (s : Dt × Int) : Prop := V w l WF G Q s.1 m 0 0 16 [mA 1545, mU, mI (s.2), mU] []
theorem fX11_countOut_70_ok {w : Wd} {l : Launch} {G : Cx} {d m dd : Dt} {s0 : Int} {d' : Dt} {x : ((Dt × Int) ⊕ Dt)} (F : Fx w G cX11_countOut RX11 4 none { frames := 3, cells := 0, slots := 0, locals := 72 }) (hX : WF dd m) (hp : PB m 1545 11) (h : fX11_countOut_70 d s0 = some x) (K : (Sum.elim (fX11_countOut_6P w l G (QM w G WF none d' m 0 0) m) (fun q => q = d')) x) : V w l WF G (QM w G WF none d' m 0 0) d m 0 0 70 [mA 1545, mU, mU, mU] [mI s0] := by
  unfold fX11_countOut_70 at h
  refine v_istore_n F dX11_countOut_70 rfl (Nat.le_of_ble_eq_true rfl) (L' := [mA 1545, mI s0, mU, mU]) rfl ?_
  refine v_iload_n F dX11_countOut_71 rfl rfl ?_
  refine v_if_eq F dX11_countOut_72 rfl (fun hq12 => ?_) (fun hq12 => ?_)
  · rw [if_pos hq12] at h
    refine v_aload_n F dX11_countOut_84 rfl rfl ?_
    refine v_ldc2 (n := (-9223372036854775808)) F dX11_countOut_85 q3163 rfl ⟨by decide, by decide⟩ ?_
    obtain ⟨d13, x15, hc14, h⟩ := b2_some h
    refine v_callVv (c := 11) F dX11_countOut_88 cv_X11_925 rfl (PB.ob hp hX (Nat.le_of_ble_eq_true rfl)) (Nat.le_of_ble_eq_true rfl) rfl (vm_X11_electFrom hp hc14) rfl (rOk.of rfl) ?_
    refine v_pop_I F dX11_countOut_91 ?_
    refine v_goto F dX11_countOut_92 rfl ?_
    cases h
    exact K
  · rw [if_neg hq12] at h
    refine v_aload_n F dX11_countOut_75 rfl rfl ?_
    refine v_iconst F dX11_countOut_76 ⟨by decide, by decide⟩ ?_
    obtain ⟨d16, x18, hc17, h⟩ := b2_some h
    refine v_callVv (c := 11) F dX11_countOut_77 cv_X11_935 rfl (PB.ob hp hX (Nat.le_of_ble_eq_true rfl)) (Nat.le_of_ble_eq_true rfl) rfl (vm_X11_goesOut hp hc17) rfl (rOk.of rfl) ?_
    refine v_pop_I F dX11_countOut_80 ?_
    refine v_goto F dX11_countOut_81 rfl ?_
    cases h
    exact K
theorem fX11_countOut_16f_ok {w : Wd} {l : Launch} {G : Cx} {m dd : Dt} {d' : Dt} {s : Dt × Int} {x : ((Dt × Int) ⊕ ((Dt × Int) ⊕ Dt))} (F : Fx w G cX11_countOut RX11 4 none { frames := 3, cells := 0, slots := 0, locals := 72 }) (hX : WF dd m) (hp : PB m 1545 11) (h : fX11_countOut_16f s = some x) (K : (Sum.elim (fX11_countOut_16P w l G (QM w G WF none d' m 0 0) m) (Sum.elim (fX11_countOut_6P w l G (QM w G WF none d' m 0 0) m) (fun q => q = d'))) x) : V w l WF G (QM w G WF none d' m 0 0) s.1 m 0 0 16 [mA 1545, mU, mI (s.2), mU] [] := by
  obtain ⟨d, v2⟩ := s
  unfold fX11_countOut_16f at h
  dsimp only at h
  refine v_iload_n F dX11_countOut_16 rfl rfl ?_
  refine v_aload_n F dX11_countOut_17 rfl rfl ?_
  refine gf_X11_767 F dX11_countOut_18 hp ?_
  refine v_icmp_ge F dX11_countOut_21 rfl (fun hq6 => ?_) (fun hq6 => ?_)
  · rw [if_pos hq6] at h
    obtain ⟨z, hu, ez⟩ := up_some h
    clear h
    subst ez
    have h := hu
    clear hu
    refine v_aload_n F dX11_countOut_50 rfl rfl ?_
    obtain ⟨d7, hc8, h⟩ := bd_some h
    refine v_callV0 (c := 11) F dX11_countOut_51 cv_X11_868 rfl (PB.ob hp hX (Nat.le_of_ble_eq_true rfl)) (Nat.le_of_ble_eq_true rfl) rfl (vm_X11_tell hp hc8) rfl (rOk.of rfl) ?_
    refine v_aload_n F dX11_countOut_54 rfl rfl ?_
    obtain ⟨x9, hc10, h⟩ := b1_some h
    refine v_callVv (c := 11) F dX11_countOut_55 cv_X11_918 rfl (PB.ob hp hX (Nat.le_of_ble_eq_true rfl)) (Nat.le_of_ble_eq_true rfl) rfl (vm_X11_howManyIn hp hc10) rfl (rOk.of rfl) ?_
    refine v_aload_n F dX11_countOut_58 rfl rfl ?_
    refine gf_X11_758 F dX11_countOut_59 hp ?_
    refine v_icmp_le F dX11_countOut_62 rfl (fun hq11 => ?_) (fun hq11 => ?_)
    · rw [if_pos hq11] at h
      refine v_iconst F dX11_countOut_69 ⟨by decide, by decide⟩ ?_
      refine v_fgt (L' := [mA 1545, mU, mU, mU]) ⟨Or.inl rfl, Or.inl rfl, Or.inr rfl, Or.inl rfl, trivial⟩ ?_
      exact fX11_countOut_70_ok F hX hp h K
    · rw [if_neg hq11] at h
      refine v_iconst F dX11_countOut_65 ⟨by decide, by decide⟩ ?_
      refine v_goto F dX11_countOut_66 rfl ?_
      refine v_fgt (L' := [mA 1545, mU, mU, mU]) ⟨Or.inl rfl, Or.inl rfl, Or.inr rfl, Or.inl rfl, trivial⟩ ?_
      exact fX11_countOut_70_ok F hX hp h K
  · rw [if_neg hq6] at h
    refine v_aload_n F dX11_countOut_24 rfl rfl ?_
    refine v_iload_n F dX11_countOut_25 rfl rfl ?_
    obtain ⟨x19, hc20, h⟩ := b1_some h
    refine v_callVv (c := 11) F dX11_countOut_26 cv_X11_932 rfl (PB.ob hp hX (Nat.le_of_ble_eq_true rfl)) (Nat.le_of_ble_eq_true rfl) rfl (vm_X11_firstIn hp hc20) rfl (rOk.of rfl) ?_
    refine v_istore_n F dX11_countOut_29 rfl (Nat.le_of_ble_eq_true rfl) (L' := [mA 1545, mU, mI v2, mI x19]) rfl ?_
    refine v_iload_n F dX11_countOut_30 rfl rfl ?_
    refine v_if_lt F dX11_countOut_31 rfl (fun hq21 => ?_) (fun hq21 => ?_)
    · rw [if_pos hq21] at h
      obtain ⟨x22, ex22, h⟩ := lv_some h
      refine v_iincN F dX11_countOut_44 (Nat.le_of_ble_eq_true rfl) rfl ex22 (L' := [mA 1545, mU, mI x22, mI x19]) rfl ?_
      refine v_goto F dX11_countOut_47 rfl ?_
      cases h
      refine v_fgt (L' := [mA 1545, mU, mI x22, mU]) ⟨Or.inl rfl, Or.inl rfl, Or.inl rfl, Or.inr rfl, trivial⟩ ?_
      exact K
    · rw [if_neg hq21] at h
      refine v_aload_n F dX11_countOut_34 rfl rfl ?_
      refine gf_X11_801 F dX11_countOut_35 hp (v := 1621) rfl ?_
      refine v_iload_n F dX11_countOut_38 rfl rfl ?_
      refine v_dup2_IA F dX11_countOut_39 ?_
      obtain ⟨hi23, h⟩ := ck_some h
      refine v_lald F dX11_countOut_40 (ar_X11_108 hX hp) hi23 ?_
      refine v_lconst1 F dX11_countOut_41 ?_
      refine v_ladd F dX11_countOut_42 ?_
      obtain ⟨d24, ed24, h⟩ := sd_some h
      refine v_last F dX11_countOut_43 (ar_X11_108 hX hp) hi23 ?_
      refine v_nD ed24 ?_
      obtain ⟨x25, ex25, h⟩ := lv_some h
      refine v_iincN F dX11_countOut_44 (Nat.le_of_ble_eq_true rfl) rfl ex25 (L' := [mA 1545, mU, mI x25, mI x19]) rfl ?_
      refine v_goto F dX11_countOut_47 rfl ?_
      cases h
      refine v_fgt (L' := [mA 1545, mU, mI x25, mU]) ⟨Or.inl rfl, Or.inl rfl, Or.inl rfl, Or.inr rfl, trivial⟩ ?_
      exact K
theorem fX11_countOut_16_ok {w : Wd} {l : Launch} {G : Cx} {d m dd : Dt} {v2 : Int} {d' : Dt} {x : ((Dt × Int) ⊕ Dt)} (F : Fx w G cX11_countOut RX11 4 none { frames := 3, cells := 0, slots := 0, locals := 72 }) (hX : WF dd m) (hp : PB m 1545 11) (h : fX11_countOut_16 d v2 = some x) (K : (Sum.elim (fX11_countOut_6P w l G (QM w G WF none d' m 0 0) m) (fun q => q = d')) x) : V w l WF G (QM w G WF none d' m 0 0) d m 0 0 16 [mA 1545, mU, mI v2, mU] [] := by
  unfold fX11_countOut_16 at h
  exact loop_ok (P := fX11_countOut_16P w l G (QM w G WF none d' m 0 0) m) (fun s x hx h1 h2 => fX11_countOut_16f_ok F hX hp hx (by
    cases x with
    | inl s' => exact h1 s' rfl
    | inr z => cases h2 z rfl; exact K)) h
theorem fX11_countOut_6f_ok {w : Wd} {l : Launch} {G : Cx} {m dd : Dt} {d' : Dt} {s : Dt × Int} {x : ((Dt × Int) ⊕ Dt)} (F : Fx w G cX11_countOut RX11 4 none { frames := 3, cells := 0, slots := 0, locals := 72 }) (hX : WF dd m) (hp : PB m 1545 11) (h : fX11_countOut_6f s = some x) (K : (Sum.elim (fX11_countOut_6P w l G (QM w G WF none d' m 0 0) m) (fun q => q = d')) x) : V w l WF G (QM w G WF none d' m 0 0) s.1 m 0 0 6 [mA 1545, mI (s.2), mU, mU] [] := by
  obtain ⟨d, v1⟩ := s
  unfold fX11_countOut_6f at h
  dsimp only at h
  refine v_iload_n F dX11_countOut_6 rfl rfl ?_
  refine v_if_eq F dX11_countOut_7 rfl (fun hq3 => ?_) (fun hq3 => ?_)
  · rw [if_pos hq3] at h
    obtain ⟨z, hu, ez⟩ := up_some h
    clear h
    subst ez
    have h := hu
    clear hu
    cases h
    cases (show _ = d' from K)
    exact v_vret F dX11_countOut_95
  · rw [if_neg hq3] at h
    refine v_aload_n F dX11_countOut_10 rfl rfl ?_
    obtain ⟨d4, hc5, h⟩ := bd_some h
    refine v_callV0 (c := 11) F dX11_countOut_11 cv_X11_811 rfl (PB.ob hp hX (Nat.le_of_ble_eq_true rfl)) (Nat.le_of_ble_eq_true rfl) rfl (vm_X11_noVotes hp hc5) rfl (rOk.of rfl) ?_
    refine v_iconst F dX11_countOut_14 ⟨by decide, by decide⟩ ?_
    refine v_istore_n F dX11_countOut_15 rfl (Nat.le_of_ble_eq_true rfl) (L' := [mA 1545, mI v1, mI 0, mU]) rfl ?_
    refine v_fgt (L' := [mA 1545, mU, mI 0, mU]) ⟨Or.inl rfl, Or.inr rfl, Or.inl rfl, Or.inl rfl, trivial⟩ ?_
    exact fX11_countOut_16_ok F hX hp h K
theorem fX11_countOut_6_ok {w : Wd} {l : Launch} {G : Cx} {d m dd : Dt} {v1 : Int} {d' : Dt} {x : Dt} (F : Fx w G cX11_countOut RX11 4 none { frames := 3, cells := 0, slots := 0, locals := 72 }) (hX : WF dd m) (hp : PB m 1545 11) (h : fX11_countOut_6 d v1 = some x) (K : (fun q => q = d') x) : V w l WF G (QM w G WF none d' m 0 0) d m 0 0 6 [mA 1545, mI v1, mU, mU] [] := by
  unfold fX11_countOut_6 at h
  exact loop_ok (P := fX11_countOut_6P w l G (QM w G WF none d' m 0 0) m) (fun s x hx h1 h2 => fX11_countOut_6f_ok F hX hp hx (by
    cases x with
    | inl s' => exact h1 s' rfl
    | inr z => cases h2 z rfl; exact K)) h
theorem vm_X11_countOut {w : Wd} {l : Launch} {d m : Dt} {d' : Dt} (hp : PB m 1545 11) (h : fX11_countOut d = some d') : VM w l WF yX11_countOut cX11_countOut 4 none 3 72 0 0 d m [mA 1545] none d' m := by
  obtain ⟨x, h, K⟩ : ∃ x, fX11_countOut d = some x ∧ x = d' := ⟨_, h, rfl⟩
  refine VM.of (L := [mA 1545, mU, mU, mU]) (by decide +kernel) rfl (Nat.le_of_ble_eq_true rfl) fun G F _ => v_fact fun _ hX _ _ => ?_
  unfold fX11_countOut at h
  refine v_aload_n F dX11_countOut_0 rfl rfl ?_
  obtain ⟨d1, hc2, h⟩ := bd_some h
  refine v_callV0 (c := 11) F dX11_countOut_1 cv_X11_929 rfl (PB.ob hp hX (Nat.le_of_ble_eq_true rfl)) (Nat.le_of_ble_eq_true rfl) rfl (vm_X11_allIn hp hc2) rfl (rOk.of rfl) ?_
  refine v_iconst F dX11_countOut_4 ⟨by decide, by decide⟩ ?_
  refine v_istore_n F dX11_countOut_5 rfl (Nat.le_of_ble_eq_true rfl) (L' := [mA 1545, mI 1, mU, mU]) rfl ?_
  exact fX11_countOut_6_ok F hX hp h K
theorem vm_X11_up {w : Wd} {l : Launch} {X : Dt → Dt → Prop} {d m : Dt} {a1 a2 : Int} {r : Int} (h : fX11_up a1 a2 = some r) : VM w l X yX11_up cX11_up 4 (some .long) 1 25 0 0 d m [mL a1, mL a2] (some (mL r)) d m := by
  obtain ⟨x, h, K⟩ : ∃ x, fX11_up a1 a2 = some x ∧ x = r := ⟨_, h, rfl⟩
  refine VM.of (L := [mL a1, mU, mL a2, mU]) (by decide +kernel) rfl (Nat.le_of_ble_eq_true rfl) fun G F _ => ?_
  unfold fX11_up at h
  refine v_lload_n F dX11_up_0 rfl rfl ?_
  refine v_lneg F dX11_up_1 ?_
  refine v_lload_n F dX11_up_2 rfl rfl ?_
  obtain ⟨x1, hc2, h⟩ := b1_some h
  refine v_callSv F dX11_up_3 cs_X11_973 rfl (vm_J9_floorDiv hc2) rfl (rOk.of rfl) ?_
  refine v_lneg F dX11_up_6 ?_
  cases h
  cases (show _ = r from K)
  exact v_lret F dX11_up_7
def fX11_iterate_8P (w : Wd) (l : Launch) (G : Cx) (Q : State → Prop) (m : Dt) (s : Dt × Int × Int) : Prop := V w l WF G Q s.1 m 0 0 8 [mA 1545, mL (s.2.1), mU, mI (s.2.2), mU, mU, mU, mU, mU, mU] []
def fX11_iterate_24P (w : Wd) (l : Launch) (G : Cx) (Q : State → Prop) (m : Dt) (v3 : Int) (s : Dt × Int × Int × Int) : Prop := V w l WF G Q s.1 m 0 0 24 [mA 1545, mL (s.2.1), mU, mI v3, mL (s.2.2.1), mU, mI (s.2.2.2), mU, mU, mU] []
theorem fX11_iterate_24f_ok {w : Wd} {l : Launch} {G : Cx} {m dd : Dt} {v3 : Int} {d' : Dt} {r : Int} {s : Dt × Int × Int × Int} {x : ((Dt × Int × Int × Int) ⊕ ((Dt × Int × Int) ⊕ (Dt × Int)))} (F : Fx w G cX11_iterate RX11 10 (some .long) { frames := 2, cells := 0, slots := 0, locals := 48 }) (hX : WF dd m) (hp : PB m 1545 11) (h : fX11_iterate_24f v3 s = some x) (K : (Sum.elim (fX11_iterate_24P w l G (QM w G WF (some (mL r)) d' m 0 0) m v3) (Sum.elim (fX11_iterate_8P w l G (QM w G WF (some (mL r)) d' m 0 0) m) (fun q => q = (d', r)))) x) : V w l WF G (QM w G WF (some (mL r)) d' m 0 0) s.1 m 0 0 24 [mA 1545, mL (s.2.1), mU, mI v3, mL (s.2.2.1), mU, mI (s.2.2.2), mU, mU, mU] [] := by
  obtain ⟨d, v1, v4, v6⟩ := s
  unfold fX11_iterate_24f at h
  dsimp only at h
  refine v_iload F dX11_iterate_24 rfl ?_
  refine v_aload_n F dX11_iterate_26 rfl rfl ?_
  refine gf_X11_789 F dX11_iterate_27 hp (v := 1620) rfl ?_
  refine v_iload_n F dX11_iterate_30 rfl rfl ?_
  obtain ⟨hi6, h⟩ := ck_some h
  refine v_iald F dX11_iterate_31 (ar_X11_107 hX hp) hi6 ?_
  refine v_icmp_ge F dX11_iterate_32 rfl (fun hq7 => ?_) (fun hq7 => ?_)
  · rw [if_pos hq7] at h
    obtain ⟨z, hu, ez⟩ := up_some h
    clear h
    subst ez
    have h := hu
    clear hu
    obtain ⟨x8, ex8, h⟩ := lv_some h
    refine v_iincN F dX11_iterate_97 (Nat.le_of_ble_eq_true rfl) rfl ex8 (L' := [mA 1545, mL v1, mU, mI x8, mL v4, mU, mI v6, mU, mU, mU]) rfl ?_
    refine v_goto F dX11_iterate_100 rfl ?_
    cases h
    refine v_fgt (L' := [mA 1545, mL v1, mU, mI x8, mU, mU, mU, mU, mU, mU]) ⟨Or.inl rfl, Or.inl rfl, Or.inl rfl, Or.inl rfl, Or.inr rfl, Or.inl rfl, Or.inr rfl, Or.inl rfl, Or.inl rfl, Or.inl rfl, trivial⟩ ?_
    exact K
  · rw [if_neg hq7] at h
    refine v_aload_n F dX11_iterate_35 rfl rfl ?_
    refine gf_X11_792 F dX11_iterate_36 hp (v := 1619) rfl ?_
    refine v_bipush F dX11_iterate_39 rfl ⟨by decide, by decide⟩ ?_
    refine v_iload_n F dX11_iterate_41 rfl rfl ?_
    refine v_imul F dX11_iterate_42 ?_
    refine v_iload F dX11_iterate_43 rfl ?_
    refine v_iadd F dX11_iterate_45 ?_
    obtain ⟨x9, ex9, h⟩ := lv_some h
    refine v_nI ex9 ?_
    obtain ⟨hi10, h⟩ := ck_some h
    refine v_iald F dX11_iterate_46 (ar_X11_106 hX hp) hi10 ?_
    obtain ⟨x11, ex11, h⟩ := lv_some h
    refine v_nI ex11 ?_
    refine v_istore F dX11_iterate_47 (Nat.le_of_ble_eq_true rfl) (L' := [mA 1545, mL v1, mU, mI v3, mL v4, mU, mI v6, mI x11, mU, mU]) rfl ?_
    refine v_lload F dX11_iterate_49 rfl ?_
    refine v_aload_n F dX11_iterate_51 rfl rfl ?_
    refine gf_X11_979 F dX11_iterate_52 hp (v := 1635) rfl ?_
    refine v_iload F dX11_iterate_55 rfl ?_
    obtain ⟨hi12, h⟩ := ck_some h
    refine v_lald F dX11_iterate_57 (ar_X11_131 hX hp) hi12 ?_
    refine v_lmul F dX11_iterate_58 ?_
    refine v_ldc2 (n := 100000000) F dX11_iterate_59 q3172 rfl ⟨by decide, by decide⟩ ?_
    obtain ⟨x13, hc14, h⟩ := b1_some h
    refine v_callSv F dX11_iterate_62 cs_X11_982 rfl (vm_X11_up hc14) rfl (rOk.of rfl) ?_
    refine v_lstore F dX11_iterate_65 (Nat.le_of_ble_eq_true rfl) (L' := [mA 1545, mL v1, mU, mI v3, mL v4, mU, mI v6, mI x11, mL x13, mU]) rfl ?_
    refine v_aload_n F dX11_iterate_67 rfl rfl ?_
    refine gf_X11_801 F dX11_iterate_68 hp (v := 1621) rfl ?_
    refine v_iload F dX11_iterate_71 rfl ?_
    refine v_dup2_IA F dX11_iterate_73 ?_
    refine v_lald F dX11_iterate_74 (ar_X11_108 hX hp) hi12 ?_
    refine v_lload F dX11_iterate_75 rfl ?_
    refine v_ladd F dX11_iterate_77 ?_
    obtain ⟨d15, ed15, h⟩ := sd_some h
    refine v_last F dX11_iterate_78 (ar_X11_108 hX hp) hi12 ?_
    refine v_nD ed15 ?_
    refine v_lload F dX11_iterate_79 rfl ?_
    refine v_lload F dX11_iterate_81 rfl ?_
    refine v_lsub F dX11_iterate_83 ?_
    obtain ⟨x16, ex16, h⟩ := lv_some h
    refine v_nL ex16 ?_
    refine v_lstore F dX11_iterate_84 (Nat.le_of_ble_eq_true rfl) (L' := [mA 1545, mL v1, mU, mI v3, mL x16, mU, mI v6, mI x11, mL x13, mU]) rfl ?_
    refine v_lload_n F dX11_iterate_86 rfl rfl ?_
    refine v_lload F dX11_iterate_87 rfl ?_
    refine v_ladd F dX11_iterate_89 ?_
    obtain ⟨x17, ex17, h⟩ := lv_some h
    refine v_nL ex17 ?_
    refine v_lstore_n F dX11_iterate_90 rfl (Nat.le_of_ble_eq_true rfl) (L' := [mA 1545, mL x17, mU, mI v3, mL x16, mU, mI v6, mI x11, mL x13, mU]) rfl ?_
    obtain ⟨x18, ex18, h⟩ := lv_some h
    refine v_iincN F dX11_iterate_91 (Nat.le_of_ble_eq_true rfl) rfl ex18 (L' := [mA 1545, mL x17, mU, mI v3, mL x16, mU, mI x18, mI x11, mL x13, mU]) rfl ?_
    refine v_goto F dX11_iterate_94 rfl ?_
    cases h
    refine v_fgt (L' := [mA 1545, mL x17, mU, mI v3, mL x16, mU, mI x18, mU, mU, mU]) ⟨Or.inl rfl, Or.inl rfl, Or.inl rfl, Or.inl rfl, Or.inl rfl, Or.inl rfl, Or.inl rfl, Or.inr rfl, Or.inr rfl, Or.inl rfl, trivial⟩ ?_
    exact K
theorem fX11_iterate_24_ok {w : Wd} {l : Launch} {G : Cx} {d m dd : Dt} {v1 v3 v4 v6 : Int} {d' : Dt} {r : Int} {x : ((Dt × Int × Int) ⊕ (Dt × Int))} (F : Fx w G cX11_iterate RX11 10 (some .long) { frames := 2, cells := 0, slots := 0, locals := 48 }) (hX : WF dd m) (hp : PB m 1545 11) (h : fX11_iterate_24 d v1 v3 v4 v6 = some x) (K : (Sum.elim (fX11_iterate_8P w l G (QM w G WF (some (mL r)) d' m 0 0) m) (fun q => q = (d', r))) x) : V w l WF G (QM w G WF (some (mL r)) d' m 0 0) d m 0 0 24 [mA 1545, mL v1, mU, mI v3, mL v4, mU, mI v6, mU, mU, mU] [] := by
  unfold fX11_iterate_24 at h
  exact loop_ok (P := fX11_iterate_24P w l G (QM w G WF (some (mL r)) d' m 0 0) m v3) (fun s x hx h1 h2 => fX11_iterate_24f_ok F hX hp hx (by
    cases x with
    | inl s' => exact h1 s' rfl
    | inr z => cases h2 z rfl; exact K)) h
theorem fX11_iterate_8f_ok {w : Wd} {l : Launch} {G : Cx} {m dd : Dt} {d' : Dt} {r : Int} {s : Dt × Int × Int} {x : ((Dt × Int × Int) ⊕ (Dt × Int))} (F : Fx w G cX11_iterate RX11 10 (some .long) { frames := 2, cells := 0, slots := 0, locals := 48 }) (hX : WF dd m) (hp : PB m 1545 11) (h : fX11_iterate_8f s = some x) (K : (Sum.elim (fX11_iterate_8P w l G (QM w G WF (some (mL r)) d' m 0 0) m) (fun q => q = (d', r))) x) : V w l WF G (QM w G WF (some (mL r)) d' m 0 0) s.1 m 0 0 8 [mA 1545, mL (s.2.1), mU, mI (s.2.2), mU, mU, mU, mU, mU, mU] [] := by
  obtain ⟨d, v1, v3⟩ := s
  unfold fX11_iterate_8f at h
  dsimp only at h
  refine v_iload_n F dX11_iterate_8 rfl rfl ?_
  refine v_aload_n F dX11_iterate_9 rfl rfl ?_
  refine gf_X11_767 F dX11_iterate_10 hp ?_
  refine v_icmp_ge F dX11_iterate_13 rfl (fun hq3 => ?_) (fun hq3 => ?_)
  · rw [if_pos hq3] at h
    obtain ⟨z, hu, ez⟩ := up_some h
    clear h
    subst ez
    have h := hu
    clear hu
    refine v_lload_n F dX11_iterate_103 rfl rfl ?_
    refine v_aload_n F dX11_iterate_104 rfl rfl ?_
    refine gf_X11_758 F dX11_iterate_105 hp ?_
    refine v_iconst F dX11_iterate_108 ⟨by decide, by decide⟩ ?_
    refine v_iadd F dX11_iterate_109 ?_
    refine v_i2l F dX11_iterate_110 ?_
    obtain ⟨x4, ex4, h⟩ := lv_some h
    refine v_nL ex4 ?_
    obtain ⟨hz5, h⟩ := ck_some h
    refine v_ldiv F dX11_iterate_111 hz5 ?_
    refine v_lconst1 F dX11_iterate_112 ?_
    refine v_ladd F dX11_iterate_113 ?_
    cases h
    cases (show _ = (d', r) from K)
    exact v_lret F dX11_iterate_114
  · rw [if_neg hq3] at h
    refine v_ldc2 (n := 100000000) F dX11_iterate_16 q3172 rfl ⟨by decide, by decide⟩ ?_
    refine v_lstore F dX11_iterate_19 (Nat.le_of_ble_eq_true rfl) (L' := [mA 1545, mL v1, mU, mI v3, mL 100000000, mU, mU, mU, mU, mU]) rfl ?_
    refine v_iconst F dX11_iterate_21 ⟨by decide, by decide⟩ ?_
    refine v_istore F dX11_iterate_22 (Nat.le_of_ble_eq_true rfl) (L' := [mA 1545, mL v1, mU, mI v3, mL 100000000, mU, mI 0, mU, mU, mU]) rfl ?_
    exact fX11_iterate_24_ok F hX hp h K
theorem fX11_iterate_8_ok {w : Wd} {l : Launch} {G : Cx} {d m dd : Dt} {v1 v3 : Int} {d' : Dt} {r : Int} {x : (Dt × Int)} (F : Fx w G cX11_iterate RX11 10 (some .long) { frames := 2, cells := 0, slots := 0, locals := 48 }) (hX : WF dd m) (hp : PB m 1545 11) (h : fX11_iterate_8 d v1 v3 = some x) (K : (fun q => q = (d', r)) x) : V w l WF G (QM w G WF (some (mL r)) d' m 0 0) d m 0 0 8 [mA 1545, mL v1, mU, mI v3, mU, mU, mU, mU, mU, mU] [] := by
  unfold fX11_iterate_8 at h
  exact loop_ok (P := fX11_iterate_8P w l G (QM w G WF (some (mL r)) d' m 0 0) m) (fun s x hx h1 h2 => fX11_iterate_8f_ok F hX hp hx (by
    cases x with
    | inl s' => exact h1 s' rfl
    | inr z => cases h2 z rfl; exact K)) h
theorem vm_X11_iterate {w : Wd} {l : Launch} {d m : Dt} {d' : Dt} {r : Int} (hp : PB m 1545 11) (h : fX11_iterate d = some (d', r)) : VM w l WF yX11_iterate cX11_iterate 10 (some .long) 2 48 0 0 d m [mA 1545] (some (mL r)) d' m := by
  obtain ⟨x, h, K⟩ : ∃ x, fX11_iterate d = some x ∧ x = (d', r) := ⟨_, h, rfl⟩
  refine VM.of (L := [mA 1545, mU, mU, mU, mU, mU, mU, mU, mU, mU]) (by decide +kernel) rfl (Nat.le_of_ble_eq_true rfl) fun G F _ => v_fact fun _ hX _ _ => ?_
  unfold fX11_iterate at h
  refine v_aload_n F dX11_iterate_0 rfl rfl ?_
  obtain ⟨d1, hc2, h⟩ := bd_some h
  refine v_callV0 (c := 11) F dX11_iterate_1 cv_X11_811 rfl (PB.ob hp hX (Nat.le_of_ble_eq_true rfl)) (Nat.le_of_ble_eq_true rfl) rfl (vm_X11_noVotes hp hc2) rfl (rOk.of rfl) ?_
  refine v_lconst0 F dX11_iterate_4 ?_
  refine v_lstore_n F dX11_iterate_5 rfl (Nat.le_of_ble_eq_true rfl) (L' := [mA 1545, mL 0, mU, mU, mU, mU, mU, mU, mU, mU]) rfl ?_
  refine v_iconst F dX11_iterate_6 ⟨by decide, by decide⟩ ?_
  refine v_istore_n F dX11_iterate_7 rfl (Nat.le_of_ble_eq_true rfl) (L' := [mA 1545, mL 0, mU, mI 0, mU, mU, mU, mU, mU, mU]) rfl ?_
  exact fX11_iterate_8_ok F hX hp h K
theorem fX11_isThrough_35_ok {w : Wd} {l : Launch} {G : Cx} {d m dd : Dt} {d' : Dt} {r : Int} {x : (Dt × Int)} (F : Fx w G cX11_isThrough RX11 1 (some .boolean) { frames := 2, cells := 0, slots := 0, locals := 46 }) (hX : WF dd m) (hp : PB m 1545 11) (h : fX11_isThrough_35 d = some x) (K : (fun q => q = (d', r)) x) : V w l WF G (QM w G WF (some (mI r)) d' m 0 0) d m 0 0 35 [mA 1545] [] := by
  unfold fX11_isThrough_35 at h
  refine v_aload_n F dX11_isThrough_35 rfl rfl ?_
  refine gf_X11_829 F dX11_isThrough_36 hp ?_
  refine v_aload_n F dX11_isThrough_39 rfl rfl ?_
  refine gf_X11_758 F dX11_isThrough_40 hp ?_
  refine v_icmp_ne F dX11_isThrough_43 rfl (fun hq2 => ?_) (fun hq2 => ?_)
  · rw [if_neg hq2] at h
    refine v_iconst F dX11_isThrough_50 ⟨by decide, by decide⟩ ?_
    cases h
    cases (show _ = (d', r) from K)
    exact v_zret F (Or.inl rfl) dX11_isThrough_51
  · rw [if_pos hq2] at h
    refine v_iconst F dX11_isThrough_46 ⟨by decide, by decide⟩ ?_
    refine v_goto F dX11_isThrough_47 rfl ?_
    cases h
    cases (show _ = (d', r) from K)
    exact v_zret F (Or.inr rfl) dX11_isThrough_51
theorem vm_X11_isThrough {w : Wd} {l : Launch} {d m : Dt} {d' : Dt} {r : Int} (hp : PB m 1545 11) (h : fX11_isThrough d = some (d', r)) : VM w l WF yX11_isThrough cX11_isThrough 1 (some .boolean) 2 46 0 0 d m [mA 1545] (some (mI r)) d' m := by
  obtain ⟨x, h, K⟩ : ∃ x, fX11_isThrough d = some x ∧ x = (d', r) := ⟨_, h, rfl⟩
  refine VM.of (L := [mA 1545]) (by decide +kernel) rfl (Nat.le_of_ble_eq_true rfl) fun G F _ => v_fact fun _ hX _ _ => ?_
  unfold fX11_isThrough at h
  refine v_aload_n F dX11_isThrough_0 rfl rfl ?_
  refine gf_X11_829 F dX11_isThrough_1 hp ?_
  refine v_aload_n F dX11_isThrough_4 rfl rfl ?_
  refine gf_X11_758 F dX11_isThrough_5 hp ?_
  refine v_icmp_ge F dX11_isThrough_8 rfl (fun hq1 => ?_) (fun hq1 => ?_)
  · rw [if_pos hq1] at h
    exact fX11_isThrough_35_ok F hX hp h K
  · rw [if_neg hq1] at h
    refine v_aload_n F dX11_isThrough_11 rfl rfl ?_
    refine gf_X11_829 F dX11_isThrough_12 hp ?_
    refine v_aload_n F dX11_isThrough_15 rfl rfl ?_
    obtain ⟨x3, hc4, h⟩ := b1_some h
    refine v_callVv (c := 11) F dX11_isThrough_16 cv_X11_918 rfl (PB.ob hp hX (Nat.le_of_ble_eq_true rfl)) (Nat.le_of_ble_eq_true rfl) rfl (vm_X11_howManyIn hp hc4) rfl (rOk.of rfl) ?_
    refine v_iadd F dX11_isThrough_19 ?_
    refine v_aload_n F dX11_isThrough_20 rfl rfl ?_
    refine gf_X11_758 F dX11_isThrough_21 hp ?_
    refine v_icmp_ne F dX11_isThrough_24 rfl (fun hq5 => ?_) (fun hq5 => ?_)
    · rw [if_neg hq5] at h
      exact fX11_isThrough_35_ok F hX hp h K
    · rw [if_pos hq5] at h
      refine v_aload_n F dX11_isThrough_27 rfl rfl ?_
      refine v_ldc2 (n := (-9223372036854775808)) F dX11_isThrough_28 q3163 rfl ⟨by decide, by decide⟩ ?_
      obtain ⟨d6, x8, hc7, h⟩ := b2_some h
      refine v_callVv (c := 11) F dX11_isThrough_31 cv_X11_925 rfl (PB.ob hp hX (Nat.le_of_ble_eq_true rfl)) (Nat.le_of_ble_eq_true rfl) rfl (vm_X11_electFrom hp hc7) rfl (rOk.of rfl) ?_
      refine v_pop_I F dX11_isThrough_34 ?_
      exact fX11_isThrough_35_ok F hX hp h K
def fX11_countMeek_6P (w : Wd) (l : Launch) (G : Cx) (Q : State → Prop) (m : Dt) (s : Dt × Int) : Prop := V w l WF G Q s.1 m 0 0 6 [mA 1545, mI (s.2), mU, mU, mU, mU, mU, mU, mU, mU] []
def fX11_countMeek_33P (w : Wd) (l : Launch) (G : Cx) (Q : State → Prop) (m : Dt) (s : Dt × Int) : Prop := V w l WF G Q s.1 m 0 0 33 [mA 1545, mL (s.2), mU, mU, mU, mU, mU, mU, mU, mU] []
def fX11_countMeek_63P (w : Wd) (l : Launch) (G : Cx) (Q : State → Prop) (m : Dt) (d : Dt) (v1 v3 v5 : Int) (s : Int × Int) : Prop := V w l WF G Q d m 0 0 63 [mA 1545, mL v1, mU, mL v3, mU, mI v5, mL (s.1), mU, mI (s.2), mU] []
def fX11_countMeek_161P (w : Wd) (l : Launch) (G : Cx) (Q : State → Prop) (m : Dt) (v1 v3 : Int) (s : Dt × Int) : Prop := V w l WF G Q s.1 m 0 0 161 [mA 1545, mL v1, mU, mL v3, mU, mU, mU, mU, mI (s.2), mU] []
theorem fX11_countMeek_232_ok {w : Wd} {l : Launch} {G : Cx} {d m dd : Dt} {v1 v3 v8 s1 s2 : Int} {d' : Dt} {x : ((Dt × Int) ⊕ ((Dt × Int) ⊕ Dt))} (F : Fx w G cX11_countMeek RX11 10 none { frames := 3, cells := 0, slots := 0, locals := 77 }) (hX : WF dd m) (hp : PB m 1545 11) (h : fX11_countMeek_232 d v1 v3 v8 s1 s2 = some x) (K : (Sum.elim (fX11_countMeek_161P w l G (QM w G WF none d' m 0 0) m v1 v3) (Sum.elim (fX11_countMeek_33P w l G (QM w G WF none d' m 0 0) m) (fun q => q = d'))) x) : V w l WF G (QM w G WF none d' m 0 0) d m 0 0 232 [mA 1545, mL v1, mU, mL v3, mU, mU, mU, mU, mI v8, mU] [mL s2, mI s1, mA 1635] := by
  unfold fX11_countMeek_232 at h
  obtain ⟨hi29, h⟩ := ck_some h
  obtain ⟨d30, ed30, h⟩ := sd_some h
  refine v_last F dX11_countMeek_232 (ar_X11_131 hX hp) hi29 ?_
  refine v_nD ed30 ?_
  obtain ⟨x31, ex31, h⟩ := lv_some h
  refine v_iincN F dX11_countMeek_233 (Nat.le_of_ble_eq_true rfl) rfl ex31 (L' := [mA 1545, mL v1, mU, mL v3, mU, mU, mU, mU, mI x31, mU]) rfl ?_
  refine v_goto F dX11_countMeek_236 rfl ?_
  cases h
  exact K
theorem fX11_countMeek_161f_ok {w : Wd} {l : Launch} {G : Cx} {m dd : Dt} {v1 v3 : Int} {d' : Dt} {s : Dt × Int} {x : ((Dt × Int) ⊕ ((Dt × Int) ⊕ Dt))} (F : Fx w G cX11_countMeek RX11 10 none { frames := 3, cells := 0, slots := 0, locals := 77 }) (hX : WF dd m) (hp : PB m 1545 11) (h : fX11_countMeek_161f v1 v3 s = some x) (K : (Sum.elim (fX11_countMeek_161P w l G (QM w G WF none d' m 0 0) m v1 v3) (Sum.elim (fX11_countMeek_33P w l G (QM w G WF none d' m 0 0) m) (fun q => q = d'))) x) : V w l WF G (QM w G WF none d' m 0 0) s.1 m 0 0 161 [mA 1545, mL v1, mU, mL v3, mU, mU, mU, mU, mI (s.2), mU] [] := by
  obtain ⟨d, v8⟩ := s
  unfold fX11_countMeek_161f at h
  dsimp only at h
  refine v_iload F dX11_countMeek_161 rfl ?_
  refine v_aload_n F dX11_countMeek_163 rfl rfl ?_
  refine gf_X11_829 F dX11_countMeek_164 hp ?_
  refine v_icmp_ge F dX11_countMeek_167 rfl (fun hq24 => ?_) (fun hq24 => ?_)
  · rw [if_pos hq24] at h
    obtain ⟨z, hu, ez⟩ := up_some h
    clear h
    subst ez
    have h := hu
    clear hu
    refine v_goto F dX11_countMeek_239 rfl ?_
    cases h
    refine v_fgt (L' := [mA 1545, mL v1, mU, mU, mU, mU, mU, mU, mU, mU]) ⟨Or.inl rfl, Or.inl rfl, Or.inl rfl, Or.inr rfl, Or.inl rfl, Or.inl rfl, Or.inl rfl, Or.inl rfl, Or.inr rfl, Or.inl rfl, trivial⟩ ?_
    exact K
  · rw [if_neg hq24] at h
    refine v_aload_n F dX11_countMeek_170 rfl rfl ?_
    refine gf_X11_826 F dX11_countMeek_171 hp (v := 1626) rfl ?_
    refine v_iload F dX11_countMeek_174 rfl ?_
    obtain ⟨hi25, h⟩ := ck_some h
    refine v_iald F dX11_countMeek_176 (ar_X11_121 hX hp) hi25 ?_
    obtain ⟨x26, ex26, h⟩ := lv_some h
    refine v_nI ex26 ?_
    refine v_istore F dX11_countMeek_177 (Nat.le_of_ble_eq_true rfl) (L' := [mA 1545, mL v1, mU, mL v3, mU, mU, mU, mU, mI v8, mI x26]) rfl ?_
    refine v_aload_n F dX11_countMeek_179 rfl rfl ?_
    refine gf_X11_979 F dX11_countMeek_180 hp (v := 1635) rfl ?_
    refine v_iload F dX11_countMeek_183 rfl ?_
    refine v_aload_n F dX11_countMeek_185 rfl rfl ?_
    refine gf_X11_801 F dX11_countMeek_186 hp (v := 1621) rfl ?_
    refine v_iload F dX11_countMeek_189 rfl ?_
    obtain ⟨hi27, h⟩ := ck_some h
    refine v_lald F dX11_countMeek_191 (ar_X11_108 hX hp) hi27 ?_
    refine v_lconst0 F dX11_countMeek_192 ?_
    refine v_lcmp F dX11_countMeek_193 ?_
    refine v_if_le F dX11_countMeek_194 rfl (fun hq28 => ?_) (fun hq28 => ?_)
    · rw [if_pos hq28] at h
      refine v_aload_n F dX11_countMeek_225 rfl rfl ?_
      refine gf_X11_979 F dX11_countMeek_226 hp (v := 1635) rfl ?_
      refine v_iload F dX11_countMeek_229 rfl ?_
      refine v_lald F dX11_countMeek_231 (ar_X11_131 hX hp) hi27 ?_
      refine v_fgt (L' := [mA 1545, mL v1, mU, mL v3, mU, mU, mU, mU, mI v8, mU]) ⟨Or.inl rfl, Or.inl rfl, Or.inl rfl, Or.inl rfl, Or.inl rfl, Or.inl rfl, Or.inl rfl, Or.inl rfl, Or.inl rfl, Or.inr rfl, trivial⟩ ?_
      exact fX11_countMeek_232_ok F hX hp h K
    · rw [if_neg hq28] at h
      refine v_ldc2 (n := 100000000) F dX11_countMeek_197 q3172 rfl ⟨by decide, by decide⟩ ?_
      refine v_aload_n F dX11_countMeek_200 rfl rfl ?_
      refine gf_X11_979 F dX11_countMeek_201 hp (v := 1635) rfl ?_
      refine v_iload F dX11_countMeek_204 rfl ?_
      refine v_lald F dX11_countMeek_206 (ar_X11_131 hX hp) hi27 ?_
      refine v_lload_n F dX11_countMeek_207 rfl rfl ?_
      refine v_lmul F dX11_countMeek_208 ?_
      refine v_aload_n F dX11_countMeek_209 rfl rfl ?_
      refine gf_X11_801 F dX11_countMeek_210 hp (v := 1621) rfl ?_
      refine v_iload F dX11_countMeek_213 rfl ?_
      refine v_lald F dX11_countMeek_215 (ar_X11_108 hX hp) hi27 ?_
      obtain ⟨x32, hc33, h⟩ := b1_some h
      refine v_callSv F dX11_countMeek_216 cs_X11_982 rfl (vm_X11_up hc33) rfl (rOk.of rfl) ?_
      refine v_callSv F dX11_countMeek_219 cs_X11_996 rfl (vm_J9_min_2) rfl (rOk.of rfl) ?_
      refine v_goto F dX11_countMeek_222 rfl ?_
      refine v_fgt (L' := [mA 1545, mL v1, mU, mL v3, mU, mU, mU, mU, mI v8, mU]) ⟨Or.inl rfl, Or.inl rfl, Or.inl rfl, Or.inl rfl, Or.inl rfl, Or.inl rfl, Or.inl rfl, Or.inl rfl, Or.inl rfl, Or.inr rfl, trivial⟩ ?_
      exact fX11_countMeek_232_ok F hX hp h K
theorem fX11_countMeek_161_ok {w : Wd} {l : Launch} {G : Cx} {d m dd : Dt} {v1 v3 v8 : Int} {d' : Dt} {x : ((Dt × Int) ⊕ Dt)} (F : Fx w G cX11_countMeek RX11 10 none { frames := 3, cells := 0, slots := 0, locals := 77 }) (hX : WF dd m) (hp : PB m 1545 11) (h : fX11_countMeek_161 d v1 v3 v8 = some x) (K : (Sum.elim (fX11_countMeek_33P w l G (QM w G WF none d' m 0 0) m) (fun q => q = d')) x) : V w l WF G (QM w G WF none d' m 0 0) d m 0 0 161 [mA 1545, mL v1, mU, mL v3, mU, mU, mU, mU, mI v8, mU] [] := by
  unfold fX11_countMeek_161 at h
  exact loop_ok (P := fX11_countMeek_161P w l G (QM w G WF none d' m 0 0) m v1 v3) (fun s x hx h1 h2 => fX11_countMeek_161f_ok F hX hp hx (by
    cases x with
    | inl s' => exact h1 s' rfl
    | inr z => cases h2 z rfl; exact K)) h
theorem fX11_countMeek_133_ok {w : Wd} {l : Launch} {G : Cx} {d m dd : Dt} {v3 : Int} {d' : Dt} {x : ((Dt × Int) ⊕ Dt)} (F : Fx w G cX11_countMeek RX11 10 none { frames := 3, cells := 0, slots := 0, locals := 77 }) (hX : WF dd m) (hp : PB m 1545 11) (h : fX11_countMeek_133 d v3 = some x) (K : (Sum.elim (fX11_countMeek_33P w l G (QM w G WF none d' m 0 0) m) (fun q => q = d')) x) : V w l WF G (QM w G WF none d' m 0 0) d m 0 0 133 [mA 1545, mU, mU, mL v3, mU, mU, mU, mU, mU, mU] [] := by
  unfold fX11_countMeek_133 at h
  refine v_aload_n F dX11_countMeek_133 rfl rfl ?_
  obtain ⟨d17, hc18, h⟩ := bd_some h
  refine v_callV0 (c := 11) F dX11_countMeek_134 cv_X11_868 rfl (PB.ob hp hX (Nat.le_of_ble_eq_true rfl)) (Nat.le_of_ble_eq_true rfl) rfl (vm_X11_tell hp hc18) rfl (rOk.of rfl) ?_
  refine v_aload_n F dX11_countMeek_137 rfl rfl ?_
  refine gf_X11_979 F dX11_countMeek_138 hp (v := 1635) rfl ?_
  refine v_aload_n F dX11_countMeek_141 rfl rfl ?_
  refine v_iconst F dX11_countMeek_142 ⟨by decide, by decide⟩ ?_
  obtain ⟨d19, x21, hc20, h⟩ := b2_some h
  refine v_callVv (c := 11) F dX11_countMeek_143 cv_X11_935 rfl (PB.ob hp hX (Nat.le_of_ble_eq_true rfl)) (Nat.le_of_ble_eq_true rfl) rfl (vm_X11_goesOut hp hc20) rfl (rOk.of rfl) ?_
  refine v_lconst0 F dX11_countMeek_146 ?_
  obtain ⟨hi22, h⟩ := ck_some h
  obtain ⟨d23, ed23, h⟩ := sd_some h
  refine v_last F dX11_countMeek_147 (ar_X11_131 hX hp) hi22 ?_
  refine v_nD ed23 ?_
  refine v_ldc2 (n := 9223372036854775807) F dX11_countMeek_148 q3173 rfl ⟨by decide, by decide⟩ ?_
  refine v_lstore_n F dX11_countMeek_151 rfl (Nat.le_of_ble_eq_true rfl) (L' := [mA 1545, mL 9223372036854775807, mU, mL v3, mU, mU, mU, mU, mU, mU]) rfl ?_
  refine v_goto F dX11_countMeek_152 rfl ?_
  refine v_iconst F dX11_countMeek_158 ⟨by decide, by decide⟩ ?_
  refine v_istore F dX11_countMeek_159 (Nat.le_of_ble_eq_true rfl) (L' := [mA 1545, mL 9223372036854775807, mU, mL v3, mU, mU, mU, mU, mI 0, mU]) rfl ?_
  exact fX11_countMeek_161_ok F hX hp h K
theorem fX11_countMeek_63f_ok {w : Wd} {l : Launch} {G : Cx} {d m dd : Dt} {v1 v3 v5 : Int} {d' : Dt} {s : Int × Int} {x : ((Int × Int) ⊕ ((Dt × Int) ⊕ Dt))} (F : Fx w G cX11_countMeek RX11 10 none { frames := 3, cells := 0, slots := 0, locals := 77 }) (hX : WF dd m) (hp : PB m 1545 11) (h : fX11_countMeek_63f d v1 v3 v5 s = some x) (K : (Sum.elim (fX11_countMeek_63P w l G (QM w G WF none d' m 0 0) m d v1 v3 v5) (Sum.elim (fX11_countMeek_33P w l G (QM w G WF none d' m 0 0) m) (fun q => q = d'))) x) : V w l WF G (QM w G WF none d' m 0 0) d m 0 0 63 [mA 1545, mL v1, mU, mL v3, mU, mI v5, mL (s.1), mU, mI (s.2), mU] [] := by
  obtain ⟨v6, v8⟩ := s
  unfold fX11_countMeek_63f at h
  dsimp only at h
  refine v_iload F dX11_countMeek_63 rfl ?_
  refine v_aload_n F dX11_countMeek_65 rfl rfl ?_
  refine gf_X11_829 F dX11_countMeek_66 hp ?_
  refine v_icmp_ge F dX11_countMeek_69 rfl (fun hq14 => ?_) (fun hq14 => ?_)
  · rw [if_pos hq14] at h
    obtain ⟨z, hu, ez⟩ := up_some h
    clear h
    subst ez
    have h := hu
    clear hu
    refine v_iload F dX11_countMeek_101 rfl ?_
    refine v_if_le F dX11_countMeek_103 rfl (fun hq15 => ?_) (fun hq15 => ?_)
    · rw [if_pos hq15] at h
      refine v_lload F dX11_countMeek_117 rfl ?_
      refine v_ldc2 (n := 100) F dX11_countMeek_119 q3189 rfl ⟨by decide, by decide⟩ ?_
      refine v_lcmp F dX11_countMeek_122 ?_
      refine v_if_lt F dX11_countMeek_123 rfl (fun hq16 => ?_) (fun hq16 => ?_)
      · rw [if_pos hq16] at h
        refine v_fgt (L' := [mA 1545, mU, mU, mL v3, mU, mU, mU, mU, mU, mU]) ⟨Or.inl rfl, Or.inr rfl, Or.inl rfl, Or.inl rfl, Or.inl rfl, Or.inr rfl, Or.inr rfl, Or.inl rfl, Or.inr rfl, Or.inl rfl, trivial⟩ ?_
        exact fX11_countMeek_133_ok F hX hp h K
      · rw [if_neg hq16] at h
        refine v_lload F dX11_countMeek_126 rfl ?_
        refine v_lload_n F dX11_countMeek_128 rfl rfl ?_
        refine v_lcmp F dX11_countMeek_129 ?_
        refine v_if_lt F dX11_countMeek_130 rfl (fun hq34 => ?_) (fun hq34 => ?_)
        · rw [if_pos hq34] at h
          refine v_lload F dX11_countMeek_155 rfl ?_
          refine v_lstore_n F dX11_countMeek_157 rfl (Nat.le_of_ble_eq_true rfl) (L' := [mA 1545, mL v6, mU, mL v3, mU, mI v5, mL v6, mU, mI v8, mU]) rfl ?_
          refine v_iconst F dX11_countMeek_158 ⟨by decide, by decide⟩ ?_
          refine v_istore F dX11_countMeek_159 (Nat.le_of_ble_eq_true rfl) (L' := [mA 1545, mL v6, mU, mL v3, mU, mI v5, mL v6, mU, mI 0, mU]) rfl ?_
          refine v_fgt (L' := [mA 1545, mL v6, mU, mL v3, mU, mU, mU, mU, mI 0, mU]) ⟨Or.inl rfl, Or.inl rfl, Or.inl rfl, Or.inl rfl, Or.inl rfl, Or.inr rfl, Or.inr rfl, Or.inl rfl, Or.inl rfl, Or.inl rfl, trivial⟩ ?_
          exact fX11_countMeek_161_ok F hX hp h K
        · rw [if_neg hq34] at h
          refine v_fgt (L' := [mA 1545, mU, mU, mL v3, mU, mU, mU, mU, mU, mU]) ⟨Or.inl rfl, Or.inr rfl, Or.inl rfl, Or.inl rfl, Or.inl rfl, Or.inr rfl, Or.inr rfl, Or.inl rfl, Or.inr rfl, Or.inl rfl, trivial⟩ ?_
          exact fX11_countMeek_133_ok F hX hp h K
    · rw [if_neg hq15] at h
      refine v_aload_n F dX11_countMeek_106 rfl rfl ?_
      obtain ⟨d35, hc36, h⟩ := bd_some h
      refine v_callV0 (c := 11) F dX11_countMeek_107 cv_X11_868 rfl (PB.ob hp hX (Nat.le_of_ble_eq_true rfl)) (Nat.le_of_ble_eq_true rfl) rfl (vm_X11_tell hp hc36) rfl (rOk.of rfl) ?_
      refine v_ldc2 (n := 9223372036854775807) F dX11_countMeek_110 q3173 rfl ⟨by decide, by decide⟩ ?_
      refine v_lstore_n F dX11_countMeek_113 rfl (Nat.le_of_ble_eq_true rfl) (L' := [mA 1545, mL 9223372036854775807, mU, mL v3, mU, mI v5, mL v6, mU, mI v8, mU]) rfl ?_
      refine v_goto F dX11_countMeek_114 rfl ?_
      refine v_iconst F dX11_countMeek_158 ⟨by decide, by decide⟩ ?_
      refine v_istore F dX11_countMeek_159 (Nat.le_of_ble_eq_true rfl) (L' := [mA 1545, mL 9223372036854775807, mU, mL v3, mU, mI v5, mL v6, mU, mI 0, mU]) rfl ?_
      refine v_fgt (L' := [mA 1545, mL 9223372036854775807, mU, mL v3, mU, mU, mU, mU, mI 0, mU]) ⟨Or.inl rfl, Or.inl rfl, Or.inl rfl, Or.inl rfl, Or.inl rfl, Or.inr rfl, Or.inr rfl, Or.inl rfl, Or.inl rfl, Or.inl rfl, trivial⟩ ?_
      exact fX11_countMeek_161_ok F hX hp h K
  · rw [if_neg hq14] at h
    refine v_lload F dX11_countMeek_72 rfl ?_
    refine v_lconst0 F dX11_countMeek_74 ?_
    refine v_aload_n F dX11_countMeek_75 rfl rfl ?_
    refine gf_X11_801 F dX11_countMeek_76 hp (v := 1621) rfl ?_
    refine v_aload_n F dX11_countMeek_79 rfl rfl ?_
    refine gf_X11_826 F dX11_countMeek_80 hp (v := 1626) rfl ?_
    refine v_iload F dX11_countMeek_83 rfl ?_
    obtain ⟨hi37, h⟩ := ck_some h
    refine v_iald F dX11_countMeek_85 (ar_X11_121 hX hp) hi37 ?_
    obtain ⟨x38, ex38, h⟩ := lv_some h
    refine v_nI ex38 ?_
    obtain ⟨hi39, h⟩ := ck_some h
    refine v_lald F dX11_countMeek_86 (ar_X11_108 hX hp) hi39 ?_
    refine v_lload_n F dX11_countMeek_87 rfl rfl ?_
    refine v_lsub F dX11_countMeek_88 ?_
    refine v_callSv F dX11_countMeek_89 cs_X11_991 rfl (vm_J9_max_2) rfl (rOk.of rfl) ?_
    refine v_ladd F dX11_countMeek_92 ?_
    obtain ⟨x40, ex40, h⟩ := lv_some h
    refine v_nL ex40 ?_
    refine v_lstore F dX11_countMeek_93 (Nat.le_of_ble_eq_true rfl) (L' := [mA 1545, mL v1, mU, mL v3, mU, mI v5, mL x40, mU, mI v8, mU]) rfl ?_
    obtain ⟨x41, ex41, h⟩ := lv_some h
    refine v_iincN F dX11_countMeek_95 (Nat.le_of_ble_eq_true rfl) rfl ex41 (L' := [mA 1545, mL v1, mU, mL v3, mU, mI v5, mL x40, mU, mI x41, mU]) rfl ?_
    refine v_goto F dX11_countMeek_98 rfl ?_
    cases h
    exact K
theorem fX11_countMeek_63_ok {w : Wd} {l : Launch} {G : Cx} {d m dd : Dt} {v1 v3 v5 v6 v8 : Int} {d' : Dt} {x : ((Dt × Int) ⊕ Dt)} (F : Fx w G cX11_countMeek RX11 10 none { frames := 3, cells := 0, slots := 0, locals := 77 }) (hX : WF dd m) (hp : PB m 1545 11) (h : fX11_countMeek_63 d v1 v3 v5 v6 v8 = some x) (K : (Sum.elim (fX11_countMeek_33P w l G (QM w G WF none d' m 0 0) m) (fun q => q = d')) x) : V w l WF G (QM w G WF none d' m 0 0) d m 0 0 63 [mA 1545, mL v1, mU, mL v3, mU, mI v5, mL v6, mU, mI v8, mU] [] := by
  unfold fX11_countMeek_63 at h
  exact loop_ok (P := fX11_countMeek_63P w l G (QM w G WF none d' m 0 0) m d v1 v3 v5) (fun s x hx h1 h2 => fX11_countMeek_63f_ok F hX hp hx (by
    cases x with
    | inl s' => exact h1 s' rfl
    | inr z => cases h2 z rfl; exact K)) h
theorem fX11_countMeek_33f_ok {w : Wd} {l : Launch} {G : Cx} {m dd : Dt} {d' : Dt} {s : Dt × Int} {x : ((Dt × Int) ⊕ Dt)} (F : Fx w G cX11_countMeek RX11 10 none { frames := 3, cells := 0, slots := 0, locals := 77 }) (hX : WF dd m) (hp : PB m 1545 11) (h : fX11_countMeek_33f s = some x) (K : (Sum.elim (fX11_countMeek_33P w l G (QM w G WF none d' m 0 0) m) (fun q => q = d')) x) : V w l WF G (QM w G WF none d' m 0 0) s.1 m 0 0 33 [mA 1545, mL (s.2), mU, mU, mU, mU, mU, mU, mU, mU] [] := by
  obtain ⟨d, v1⟩ := s
  unfold fX11_countMeek_33f at h
  dsimp only at h
  refine v_aload_n F dX11_countMeek_33 rfl rfl ?_
  obtain ⟨d4, x6, hc5, h⟩ := b2_some h
  refine v_callVv (c := 11) F dX11_countMeek_34 cv_X11_987 rfl (PB.ob hp hX (Nat.le_of_ble_eq_true rfl)) (Nat.le_of_ble_eq_true rfl) rfl (vm_X11_iterate hp hc5) rfl (rOk.of rfl) ?_
  refine v_lstore_n F dX11_countMeek_37 rfl (Nat.le_of_ble_eq_true rfl) (L' := [mA 1545, mL v1, mU, mL x6, mU, mU, mU, mU, mU, mU]) rfl ?_
  refine v_aload_n F dX11_countMeek_38 rfl rfl ?_
  refine v_lload_n F dX11_countMeek_39 rfl rfl ?_
  obtain ⟨d7, x9, hc8, h⟩ := b2_some h
  refine v_callVv (c := 11) F dX11_countMeek_40 cv_X11_925 rfl (PB.ob hp hX (Nat.le_of_ble_eq_true rfl)) (Nat.le_of_ble_eq_true rfl) rfl (vm_X11_electFrom hp hc8) rfl (rOk.of rfl) ?_
  refine v_istore F dX11_countMeek_43 (Nat.le_of_ble_eq_true rfl) (L' := [mA 1545, mL v1, mU, mL x6, mU, mI x9, mU, mU, mU, mU]) rfl ?_
  refine v_aload_n F dX11_countMeek_45 rfl rfl ?_
  obtain ⟨d10, x12, hc11, h⟩ := b2_some h
  refine v_callVv (c := 11) F dX11_countMeek_46 cv_X11_959 rfl (PB.ob hp hX (Nat.le_of_ble_eq_true rfl)) (Nat.le_of_ble_eq_true rfl) rfl (vm_X11_isThrough hp hc11) rfl (rOk.of rfl) ?_
  refine v_if_eq F dX11_countMeek_49 rfl (fun hq13 => ?_) (fun hq13 => ?_)
  · rw [if_pos hq13] at h
    refine v_lconst0 F dX11_countMeek_57 ?_
    refine v_lstore F dX11_countMeek_58 (Nat.le_of_ble_eq_true rfl) (L' := [mA 1545, mL v1, mU, mL x6, mU, mI x9, mL 0, mU, mU, mU]) rfl ?_
    refine v_iconst F dX11_countMeek_60 ⟨by decide, by decide⟩ ?_
    refine v_istore F dX11_countMeek_61 (Nat.le_of_ble_eq_true rfl) (L' := [mA 1545, mL v1, mU, mL x6, mU, mI x9, mL 0, mU, mI 0, mU]) rfl ?_
    exact fX11_countMeek_63_ok F hX hp h K
  · rw [if_neg hq13] at h
    obtain ⟨z, hu, ez⟩ := up_some h
    clear h
    subst ez
    have h := hu
    clear hu
    refine v_aload_n F dX11_countMeek_52 rfl rfl ?_
    obtain ⟨d42, hc43, h⟩ := bd_some h
    refine v_callV0 (c := 11) F dX11_countMeek_53 cv_X11_868 rfl (PB.ob hp hX (Nat.le_of_ble_eq_true rfl)) (Nat.le_of_ble_eq_true rfl) rfl (vm_X11_tell hp hc43) rfl (rOk.of rfl) ?_
    cases h
    cases (show _ = d' from K)
    exact v_vret F dX11_countMeek_56
theorem fX11_countMeek_33_ok {w : Wd} {l : Launch} {G : Cx} {d m dd : Dt} {v1 : Int} {d' : Dt} {x : Dt} (F : Fx w G cX11_countMeek RX11 10 none { frames := 3, cells := 0, slots := 0, locals := 77 }) (hX : WF dd m) (hp : PB m 1545 11) (h : fX11_countMeek_33 d v1 = some x) (K : (fun q => q = d') x) : V w l WF G (QM w G WF none d' m 0 0) d m 0 0 33 [mA 1545, mL v1, mU, mU, mU, mU, mU, mU, mU, mU] [] := by
  unfold fX11_countMeek_33 at h
  exact loop_ok (P := fX11_countMeek_33P w l G (QM w G WF none d' m 0 0) m) (fun s x hx h1 h2 => fX11_countMeek_33f_ok F hX hp hx (by
    cases x with
    | inl s' => exact h1 s' rfl
    | inr z => cases h2 z rfl; exact K)) h
theorem fX11_countMeek_6f_ok {w : Wd} {l : Launch} {G : Cx} {m dd : Dt} {d' : Dt} {s : Dt × Int} {x : ((Dt × Int) ⊕ Dt)} (F : Fx w G cX11_countMeek RX11 10 none { frames := 3, cells := 0, slots := 0, locals := 77 }) (hX : WF dd m) (hp : PB m 1545 11) (h : fX11_countMeek_6f s = some x) (K : (Sum.elim (fX11_countMeek_6P w l G (QM w G WF none d' m 0 0) m) (fun q => q = d')) x) : V w l WF G (QM w G WF none d' m 0 0) s.1 m 0 0 6 [mA 1545, mI (s.2), mU, mU, mU, mU, mU, mU, mU, mU] [] := by
  obtain ⟨d, v1⟩ := s
  unfold fX11_countMeek_6f at h
  dsimp only at h
  refine v_iload_n F dX11_countMeek_6 rfl rfl ?_
  refine v_aload_n F dX11_countMeek_7 rfl rfl ?_
  refine gf_X11_755 F dX11_countMeek_8 hp ?_
  refine v_icmp_ge F dX11_countMeek_11 rfl (fun hq3 => ?_) (fun hq3 => ?_)
  · rw [if_pos hq3] at h
    obtain ⟨z, hu, ez⟩ := up_some h
    clear h
    subst ez
    have h := hu
    clear hu
    refine v_ldc2 (n := 9223372036854775807) F dX11_countMeek_29 q3173 rfl ⟨by decide, by decide⟩ ?_
    refine v_lstore_n F dX11_countMeek_32 rfl (Nat.le_of_ble_eq_true rfl) (L' := [mA 1545, mL 9223372036854775807, mU, mU, mU, mU, mU, mU, mU, mU]) rfl ?_
    exact fX11_countMeek_33_ok F hX hp h K
  · rw [if_neg hq3] at h
    refine v_aload_n F dX11_countMeek_14 rfl rfl ?_
    refine gf_X11_979 F dX11_countMeek_15 hp (v := 1635) rfl ?_
    refine v_iload_n F dX11_countMeek_18 rfl rfl ?_
    refine v_ldc2 (n := 100000000) F dX11_countMeek_19 q3172 rfl ⟨by decide, by decide⟩ ?_
    obtain ⟨hi44, h⟩ := ck_some h
    obtain ⟨d45, ed45, h⟩ := sd_some h
    refine v_last F dX11_countMeek_22 (ar_X11_131 hX hp) hi44 ?_
    refine v_nD ed45 ?_
    obtain ⟨x46, ex46, h⟩ := lv_some h
    refine v_iincN F dX11_countMeek_23 (Nat.le_of_ble_eq_true rfl) rfl ex46 (L' := [mA 1545, mI x46, mU, mU, mU, mU, mU, mU, mU, mU]) rfl ?_
    refine v_goto F dX11_countMeek_26 rfl ?_
    cases h
    exact K
theorem fX11_countMeek_6_ok {w : Wd} {l : Launch} {G : Cx} {d m dd : Dt} {v1 : Int} {d' : Dt} {x : Dt} (F : Fx w G cX11_countMeek RX11 10 none { frames := 3, cells := 0, slots := 0, locals := 77 }) (hX : WF dd m) (hp : PB m 1545 11) (h : fX11_countMeek_6 d v1 = some x) (K : (fun q => q = d') x) : V w l WF G (QM w G WF none d' m 0 0) d m 0 0 6 [mA 1545, mI v1, mU, mU, mU, mU, mU, mU, mU, mU] [] := by
  unfold fX11_countMeek_6 at h
  exact loop_ok (P := fX11_countMeek_6P w l G (QM w G WF none d' m 0 0) m) (fun s x hx h1 h2 => fX11_countMeek_6f_ok F hX hp hx (by
    cases x with
    | inl s' => exact h1 s' rfl
    | inr z => cases h2 z rfl; exact K)) h
theorem vm_X11_countMeek {w : Wd} {l : Launch} {d m : Dt} {d' : Dt} (hp : PB m 1545 11) (h : fX11_countMeek d = some d') : VM w l WF yX11_countMeek cX11_countMeek 10 none 3 77 0 0 d m [mA 1545] none d' m := by
  obtain ⟨x, h, K⟩ : ∃ x, fX11_countMeek d = some x ∧ x = d' := ⟨_, h, rfl⟩
  refine VM.of (L := [mA 1545, mU, mU, mU, mU, mU, mU, mU, mU, mU]) (by decide +kernel) rfl (Nat.le_of_ble_eq_true rfl) fun G F _ => v_fact fun _ hX _ _ => ?_
  unfold fX11_countMeek at h
  refine v_aload_n F dX11_countMeek_0 rfl rfl ?_
  obtain ⟨d1, hc2, h⟩ := bd_some h
  refine v_callV0 (c := 11) F dX11_countMeek_1 cv_X11_929 rfl (PB.ob hp hX (Nat.le_of_ble_eq_true rfl)) (Nat.le_of_ble_eq_true rfl) rfl (vm_X11_allIn hp hc2) rfl (rOk.of rfl) ?_
  refine v_iconst F dX11_countMeek_4 ⟨by decide, by decide⟩ ?_
  refine v_istore_n F dX11_countMeek_5 rfl (Nat.le_of_ble_eq_true rfl) (L' := [mA 1545, mI 0, mU, mU, mU, mU, mU, mU, mU, mU]) rfl ?_
  exact fX11_countMeek_6_ok F hX hp h K
def fX11_isLesser_2P (w : Wd) (l : Launch) (G : Cx) (Q : State → Prop) (m : Dt) (d : Dt) (a1 a2 : Int) (s : Int) : Prop := V w l WF G Q d m 0 0 2 [mA 1545, mI a1, mI a2, mI (s), mU, mU] []
theorem fX11_isLesser_2f_ok {w : Wd} {l : Launch} {G : Cx} {d m dd : Dt} {a1 a2 : Int} {r : Int} {s : Int} {x : ((Int) ⊕ Int)} (F : Fx w G cX11_isLesser RX11 6 (some .boolean) { frames := 0, cells := 0, slots := 0, locals := 0 }) (hX : WF dd m) (hp : PB m 1545 11) (h : fX11_isLesser_2f d a1 a2 s = some x) (K : (Sum.elim (fX11_isLesser_2P w l G (QM w G WF (some (mI r)) d m 0 0) m d a1 a2) (fun q => q = r)) x) : V w l WF G (QM w G WF (some (mI r)) d m 0 0) d m 0 0 2 [mA 1545, mI a1, mI a2, mI (s), mU, mU] [] := by
  obtain ⟨v3, rfl⟩ : ∃ z, z = s := ⟨s, rfl⟩
  unfold fX11_isLesser_2f at h
  dsimp only at h
  refine v_iload_n F dX11_isLesser_2 rfl rfl ?_
  refine v_aload_n F dX11_isLesser_3 rfl rfl ?_
  refine gf_X11_755 F dX11_isLesser_4 hp ?_
  refine v_icmp_ge F dX11_isLesser_7 rfl (fun hq1 => ?_) (fun hq1 => ?_)
  · rw [if_pos hq1] at h
    obtain ⟨z, hu, ez⟩ := up_some h
    clear h
    subst ez
    have h := hu
    clear hu
    refine v_iconst F dX11_isLesser_62 ⟨by decide, by decide⟩ ?_
    cases h
    cases (show _ = r from K)
    exact v_zret F (Or.inl rfl) dX11_isLesser_63
  · rw [if_neg hq1] at h
    refine v_aload_n F dX11_isLesser_10 rfl rfl ?_
    refine gf_X11_780 F dX11_isLesser_11 hp (v := 1618) rfl ?_
    refine v_bipush F dX11_isLesser_14 rfl ⟨by decide, by decide⟩ ?_
    refine v_iload_n F dX11_isLesser_16 rfl rfl ?_
    refine v_imul F dX11_isLesser_17 ?_
    refine v_iload_n F dX11_isLesser_18 rfl rfl ?_
    refine v_iadd F dX11_isLesser_19 ?_
    obtain ⟨x2, ex2, h⟩ := lv_some h
    refine v_nI ex2 ?_
    obtain ⟨hi3, h⟩ := ck_some h
    refine v_iald F dX11_isLesser_20 (ar_X11_105 hX hp) hi3 ?_
    obtain ⟨x4, ex4, h⟩ := lv_some h
    refine v_nI ex4 ?_
    refine v_istore F dX11_isLesser_21 (Nat.le_of_ble_eq_true rfl) (L' := [mA 1545, mI a1, mI a2, mI v3, mI x4, mU]) rfl ?_
    refine v_aload_n F dX11_isLesser_23 rfl rfl ?_
    refine gf_X11_780 F dX11_isLesser_24 hp (v := 1618) rfl ?_
    refine v_bipush F dX11_isLesser_27 rfl ⟨by decide, by decide⟩ ?_
    refine v_iload_n F dX11_isLesser_29 rfl rfl ?_
    refine v_imul F dX11_isLesser_30 ?_
    refine v_iload_n F dX11_isLesser_31 rfl rfl ?_
    refine v_iadd F dX11_isLesser_32 ?_
    obtain ⟨x5, ex5, h⟩ := lv_some h
    refine v_nI ex5 ?_
    obtain ⟨hi6, h⟩ := ck_some h
    refine v_iald F dX11_isLesser_33 (ar_X11_105 hX hp) hi6 ?_
    obtain ⟨x7, ex7, h⟩ := lv_some h
    refine v_nI ex7 ?_
    refine v_istore F dX11_isLesser_34 (Nat.le_of_ble_eq_true rfl) (L' := [mA 1545, mI a1, mI a2, mI v3, mI x4, mI x7]) rfl ?_
    refine v_iload F dX11_isLesser_36 rfl ?_
    refine v_iload F dX11_isLesser_38 rfl ?_
    refine v_icmp_eq F dX11_isLesser_40 rfl (fun hq8 => ?_) (fun hq8 => ?_)
    · rw [if_pos hq8] at h
      obtain ⟨x9, ex9, h⟩ := lv_some h
      refine v_iincN F dX11_isLesser_56 (Nat.le_of_ble_eq_true rfl) rfl ex9 (L' := [mA 1545, mI a1, mI a2, mI x9, mI x4, mI x7]) rfl ?_
      refine v_goto F dX11_isLesser_59 rfl ?_
      cases h
      refine v_fgt (L' := [mA 1545, mI a1, mI a2, mI x9, mU, mU]) ⟨Or.inl rfl, Or.inl rfl, Or.inl rfl, Or.inl rfl, Or.inr rfl, Or.inr rfl, trivial⟩ ?_
      exact K
    · rw [if_neg hq8] at h
      obtain ⟨z, hu, ez⟩ := up_some h
      clear h
      subst ez
      have h := hu
      clear hu
      refine v_iload F dX11_isLesser_43 rfl ?_
      refine v_iload F dX11_isLesser_45 rfl ?_
      refine v_icmp_ge F dX11_isLesser_47 rfl (fun hq10 => ?_) (fun hq10 => ?_)
      · rw [if_pos hq10] at h
        refine v_iconst F dX11_isLesser_54 ⟨by decide, by decide⟩ ?_
        cases h
        cases (show _ = r from K)
        exact v_zret F (Or.inl rfl) dX11_isLesser_55
      · rw [if_neg hq10] at h
        refine v_iconst F dX11_isLesser_50 ⟨by decide, by decide⟩ ?_
        refine v_goto F dX11_isLesser_51 rfl ?_
        cases h
        cases (show _ = r from K)
        exact v_zret F (Or.inr rfl) dX11_isLesser_55
theorem fX11_isLesser_2_ok {w : Wd} {l : Launch} {G : Cx} {d m dd : Dt} {a1 a2 v3 : Int} {r : Int} {x : Int} (F : Fx w G cX11_isLesser RX11 6 (some .boolean) { frames := 0, cells := 0, slots := 0, locals := 0 }) (hX : WF dd m) (hp : PB m 1545 11) (h : fX11_isLesser_2 d a1 a2 v3 = some x) (K : (fun q => q = r) x) : V w l WF G (QM w G WF (some (mI r)) d m 0 0) d m 0 0 2 [mA 1545, mI a1, mI a2, mI v3, mU, mU] [] := by
  unfold fX11_isLesser_2 at h
  exact loop_ok (P := fX11_isLesser_2P w l G (QM w G WF (some (mI r)) d m 0 0) m d a1 a2) (fun s x hx h1 h2 => fX11_isLesser_2f_ok F hX hp hx (by
    cases x with
    | inl s' => exact h1 s' rfl
    | inr z => cases h2 z rfl; exact K)) h
theorem vm_X11_isLesser {w : Wd} {l : Launch} {d m : Dt} {a1 a2 : Int} {r : Int} (hp : PB m 1545 11) (h : fX11_isLesser d a1 a2 = some r) : VM w l WF yX11_isLesser cX11_isLesser 6 (some .boolean) 0 0 0 0 d m [mA 1545, mI a1, mI a2] (some (mI r)) d m := by
  obtain ⟨x, h, K⟩ : ∃ x, fX11_isLesser d a1 a2 = some x ∧ x = r := ⟨_, h, rfl⟩
  refine VM.of (L := [mA 1545, mI a1, mI a2, mU, mU, mU]) (by decide +kernel) rfl (Nat.le_of_ble_eq_true rfl) fun G F _ => v_fact fun _ hX _ _ => ?_
  unfold fX11_isLesser at h
  refine v_iconst F dX11_isLesser_0 ⟨by decide, by decide⟩ ?_
  refine v_istore_n F dX11_isLesser_1 rfl (Nat.le_of_ble_eq_true rfl) (L' := [mA 1545, mI a1, mI a2, mI 0, mU, mU]) rfl ?_
  exact fX11_isLesser_2_ok F hX hp h K
def fX11_sortBallots_2P (w : Wd) (l : Launch) (G : Cx) (Q : State → Prop) (m : Dt) (s : Dt × Int) : Prop := V w l WF G Q s.1 m 0 0 2 [mA 1545, mI (s.2), mU] []
def fX11_sortBallots_12P (w : Wd) (l : Launch) (G : Cx) (Q : State → Prop) (m : Dt) (v1 : Int) (s : Dt × Int) : Prop := V w l WF G Q s.1 m 0 0 12 [mA 1545, mI v1, mI (s.2)] []
theorem fX11_sortBallots_52_ok {w : Wd} {l : Launch} {G : Cx} {d m dd : Dt} {v1 v2 : Int} {d' : Dt} {x : ((Dt × Int) ⊕ Dt)} (F : Fx w G cX11_sortBallots RX11 3 none { frames := 1, cells := 0, slots := 0, locals := 25 }) (hX : WF dd m) (hp : PB m 1545 11) (h : fX11_sortBallots_52 d v1 v2 = some x) (K : (Sum.elim (fX11_sortBallots_2P w l G (QM w G WF none d' m 0 0) m) (fun q => q = d')) x) : V w l WF G (QM w G WF none d' m 0 0) d m 0 0 52 [mA 1545, mI v1, mI v2] [] := by
  unfold fX11_sortBallots_52 at h
  refine v_aload_n F dX11_sortBallots_52 rfl rfl ?_
  refine gf_X11_939 F dX11_sortBallots_53 hp (v := 1634) rfl ?_
  refine v_iload_n F dX11_sortBallots_56 rfl rfl ?_
  refine v_iload_n F dX11_sortBallots_57 rfl rfl ?_
  obtain ⟨hi3, h⟩ := ck_some h
  obtain ⟨d4, ed4, h⟩ := sd_some h
  refine v_iast F dX11_sortBallots_58 (ar_X11_130 hX hp) hi3 ?_
  refine v_nD ed4 ?_
  obtain ⟨x5, ex5, h⟩ := lv_some h
  refine v_iincN F dX11_sortBallots_59 (Nat.le_of_ble_eq_true rfl) rfl ex5 (L' := [mA 1545, mI x5, mI v2]) rfl ?_
  refine v_goto F dX11_sortBallots_62 rfl ?_
  cases h
  refine v_fgt (L' := [mA 1545, mI x5, mU]) ⟨Or.inl rfl, Or.inl rfl, Or.inr rfl, trivial⟩ ?_
  exact K
theorem fX11_sortBallots_12f_ok {w : Wd} {l : Launch} {G : Cx} {m dd : Dt} {v1 : Int} {d' : Dt} {s : Dt × Int} {x : ((Dt × Int) ⊕ ((Dt × Int) ⊕ Dt))} (F : Fx w G cX11_sortBallots RX11 3 none { frames := 1, cells := 0, slots := 0, locals := 25 }) (hX : WF dd m) (hp : PB m 1545 11) (h : fX11_sortBallots_12f v1 s = some x) (K : (Sum.elim (fX11_sortBallots_12P w l G (QM w G WF none d' m 0 0) m v1) (Sum.elim (fX11_sortBallots_2P w l G (QM w G WF none d' m 0 0) m) (fun q => q = d'))) x) : V w l WF G (QM w G WF none d' m 0 0) s.1 m 0 0 12 [mA 1545, mI v1, mI (s.2)] [] := by
  obtain ⟨d, v2⟩ := s
  unfold fX11_sortBallots_12f at h
  dsimp only at h
  refine v_iload_n F dX11_sortBallots_12 rfl rfl ?_
  refine v_if_le F dX11_sortBallots_13 rfl (fun hq2 => ?_) (fun hq2 => ?_)
  · rw [if_pos hq2] at h
    obtain ⟨z, hu, ez⟩ := up_some h
    clear h
    subst ez
    have h := hu
    clear hu
    exact fX11_sortBallots_52_ok F hX hp h K
  · rw [if_neg hq2] at h
    refine v_aload_n F dX11_sortBallots_16 rfl rfl ?_
    refine v_iload_n F dX11_sortBallots_17 rfl rfl ?_
    refine v_aload_n F dX11_sortBallots_18 rfl rfl ?_
    refine gf_X11_939 F dX11_sortBallots_19 hp (v := 1634) rfl ?_
    refine v_iload_n F dX11_sortBallots_22 rfl rfl ?_
    refine v_iconst F dX11_sortBallots_23 ⟨by decide, by decide⟩ ?_
    refine v_isub F dX11_sortBallots_24 ?_
    obtain ⟨x6, ex6, h⟩ := lv_some h
    refine v_nI ex6 ?_
    obtain ⟨hi7, h⟩ := ck_some h
    refine v_iald F dX11_sortBallots_25 (ar_X11_130 hX hp) hi7 ?_
    obtain ⟨x8, hc9, h⟩ := b1_some h
    refine v_callVv (c := 11) F dX11_sortBallots_26 cv_X11_942 rfl (PB.ob hp hX (Nat.le_of_ble_eq_true rfl)) (Nat.le_of_ble_eq_true rfl) rfl (vm_X11_isLesser hp hc9) rfl (rOk.of rfl) ?_
    refine v_if_eq F dX11_sortBallots_29 rfl (fun hq10 => ?_) (fun hq10 => ?_)
    · rw [if_pos hq10] at h
      obtain ⟨z, hu, ez⟩ := up_some h
      clear h
      subst ez
      have h := hu
      clear hu
      exact fX11_sortBallots_52_ok F hX hp h K
    · rw [if_neg hq10] at h
      refine v_aload_n F dX11_sortBallots_32 rfl rfl ?_
      refine gf_X11_939 F dX11_sortBallots_33 hp (v := 1634) rfl ?_
      refine v_iload_n F dX11_sortBallots_36 rfl rfl ?_
      refine v_aload_n F dX11_sortBallots_37 rfl rfl ?_
      refine gf_X11_939 F dX11_sortBallots_38 hp (v := 1634) rfl ?_
      refine v_iload_n F dX11_sortBallots_41 rfl rfl ?_
      refine v_iconst F dX11_sortBallots_42 ⟨by decide, by decide⟩ ?_
      refine v_isub F dX11_sortBallots_43 ?_
      obtain ⟨x11, ex11, h⟩ := lv_some h
      refine v_nI ex11 ?_
      obtain ⟨hi12, h⟩ := ck_some h
      refine v_iald F dX11_sortBallots_44 (ar_X11_130 hX hp) hi12 ?_
      obtain ⟨hi13, h⟩ := ck_some h
      obtain ⟨d14, ed14, h⟩ := sd_some h
      refine v_iast F dX11_sortBallots_45 (ar_X11_130 hX hp) hi13 ?_
      refine v_nD ed14 ?_
      obtain ⟨x15, ex15, h⟩ := lv_some h
      refine v_iincN F dX11_sortBallots_46 (Nat.le_of_ble_eq_true rfl) rfl ex15 (L' := [mA 1545, mI v1, mI x15]) rfl ?_
      refine v_goto F dX11_sortBallots_49 rfl ?_
      cases h
      exact K
theorem fX11_sortBallots_12_ok {w : Wd} {l : Launch} {G : Cx} {d m dd : Dt} {v1 v2 : Int} {d' : Dt} {x : ((Dt × Int) ⊕ Dt)} (F : Fx w G cX11_sortBallots RX11 3 none { frames := 1, cells := 0, slots := 0, locals := 25 }) (hX : WF dd m) (hp : PB m 1545 11) (h : fX11_sortBallots_12 d v1 v2 = some x) (K : (Sum.elim (fX11_sortBallots_2P w l G (QM w G WF none d' m 0 0) m) (fun q => q = d')) x) : V w l WF G (QM w G WF none d' m 0 0) d m 0 0 12 [mA 1545, mI v1, mI v2] [] := by
  unfold fX11_sortBallots_12 at h
  exact loop_ok (P := fX11_sortBallots_12P w l G (QM w G WF none d' m 0 0) m v1) (fun s x hx h1 h2 => fX11_sortBallots_12f_ok F hX hp hx (by
    cases x with
    | inl s' => exact h1 s' rfl
    | inr z => cases h2 z rfl; exact K)) h
theorem fX11_sortBallots_2f_ok {w : Wd} {l : Launch} {G : Cx} {m dd : Dt} {d' : Dt} {s : Dt × Int} {x : ((Dt × Int) ⊕ Dt)} (F : Fx w G cX11_sortBallots RX11 3 none { frames := 1, cells := 0, slots := 0, locals := 25 }) (hX : WF dd m) (hp : PB m 1545 11) (h : fX11_sortBallots_2f s = some x) (K : (Sum.elim (fX11_sortBallots_2P w l G (QM w G WF none d' m 0 0) m) (fun q => q = d')) x) : V w l WF G (QM w G WF none d' m 0 0) s.1 m 0 0 2 [mA 1545, mI (s.2), mU] [] := by
  obtain ⟨d, v1⟩ := s
  unfold fX11_sortBallots_2f at h
  dsimp only at h
  refine v_iload_n F dX11_sortBallots_2 rfl rfl ?_
  refine v_aload_n F dX11_sortBallots_3 rfl rfl ?_
  refine gf_X11_767 F dX11_sortBallots_4 hp ?_
  refine v_icmp_ge F dX11_sortBallots_7 rfl (fun hq1 => ?_) (fun hq1 => ?_)
  · rw [if_pos hq1] at h
    obtain ⟨z, hu, ez⟩ := up_some h
    clear h
    subst ez
    have h := hu
    clear hu
    cases h
    cases (show _ = d' from K)
    exact v_vret F dX11_sortBallots_65
  · rw [if_neg hq1] at h
    refine v_iload_n F dX11_sortBallots_10 rfl rfl ?_
    refine v_istore_n F dX11_sortBallots_11 rfl (Nat.le_of_ble_eq_true rfl) (L' := [mA 1545, mI v1, mI v1]) rfl ?_
    exact fX11_sortBallots_12_ok F hX hp h K
theorem fX11_sortBallots_2_ok {w : Wd} {l : Launch} {G : Cx} {d m dd : Dt} {v1 : Int} {d' : Dt} {x : Dt} (F : Fx w G cX11_sortBallots RX11 3 none { frames := 1, cells := 0, slots := 0, locals := 25 }) (hX : WF dd m) (hp : PB m 1545 11) (h : fX11_sortBallots_2 d v1 = some x) (K : (fun q => q = d') x) : V w l WF G (QM w G WF none d' m 0 0) d m 0 0 2 [mA 1545, mI v1, mU] [] := by
  unfold fX11_sortBallots_2 at h
  exact loop_ok (P := fX11_sortBallots_2P w l G (QM w G WF none d' m 0 0) m) (fun s x hx h1 h2 => fX11_sortBallots_2f_ok F hX hp hx (by
    cases x with
    | inl s' => exact h1 s' rfl
    | inr z => cases h2 z rfl; exact K)) h
theorem vm_X11_sortBallots {w : Wd} {l : Launch} {d m : Dt} {d' : Dt} (hp : PB m 1545 11) (h : fX11_sortBallots d = some d') : VM w l WF yX11_sortBallots cX11_sortBallots 3 none 1 25 0 0 d m [mA 1545] none d' m := by
  obtain ⟨x, h, K⟩ : ∃ x, fX11_sortBallots d = some x ∧ x = d' := ⟨_, h, rfl⟩
  refine VM.of (L := [mA 1545, mU, mU]) (by decide +kernel) rfl (Nat.le_of_ble_eq_true rfl) fun G F _ => v_fact fun _ hX _ _ => ?_
  unfold fX11_sortBallots at h
  refine v_iconst F dX11_sortBallots_0 ⟨by decide, by decide⟩ ?_
  refine v_istore_n F dX11_sortBallots_1 rfl (Nat.le_of_ble_eq_true rfl) (L' := [mA 1545, mI 0, mU]) rfl ?_
  exact fX11_sortBallots_2_ok F hX hp h K
def fX11_surplusOf_5P (w : Wd) (l : Launch) (G : Cx) (Q : State → Prop) (m : Dt) (d : Dt) (a1 : Int) (s : Int × Int) : Prop := V w l WF G Q d m 0 0 5 [mA 1545, mL a1, mU, mI (s.1), mI (s.2), mU] []
theorem fX11_surplusOf_5f_ok {w : Wd} {l : Launch} {G : Cx} {d m dd : Dt} {a1 : Int} {r : Int} {s : Int × Int} {x : ((Int × Int) ⊕ Int)} (F : Fx w G cX11_surplusOf RX11 6 (some .int) { frames := 0, cells := 0, slots := 0, locals := 0 }) (hX : WF dd m) (hp : PB m 1545 11) (h : fX11_surplusOf_5f d a1 s = some x) (K : (Sum.elim (fX11_surplusOf_5P w l G (QM w G WF (some (mI r)) d m 0 0) m d a1) (fun q => q = r)) x) : V w l WF G (QM w G WF (some (mI r)) d m 0 0) d m 0 0 5 [mA 1545, mL a1, mU, mI (s.1), mI (s.2), mU] [] := by
  obtain ⟨v3, v4⟩ := s
  unfold fX11_surplusOf_5f at h
  dsimp only at h
  refine v_iload F dX11_surplusOf_5 rfl ?_
  refine v_aload_n F dX11_surplusOf_7 rfl rfl ?_
  refine gf_X11_829 F dX11_surplusOf_8 hp ?_
  refine v_icmp_ge F dX11_surplusOf_11 rfl (fun hq1 => ?_) (fun hq1 => ?_)
  · rw [if_pos hq1] at h
    obtain ⟨z, hu, ez⟩ := up_some h
    clear h
    subst ez
    have h := hu
    clear hu
    refine v_iload_n F dX11_surplusOf_75 rfl rfl ?_
    cases h
    cases (show _ = r from K)
    exact v_iret F dX11_surplusOf_76
  · rw [if_neg hq1] at h
    refine v_aload_n F dX11_surplusOf_14 rfl rfl ?_
    refine gf_X11_826 F dX11_surplusOf_15 hp (v := 1626) rfl ?_
    refine v_iload F dX11_surplusOf_18 rfl ?_
    obtain ⟨hi2, h⟩ := ck_some h
    refine v_iald F dX11_surplusOf_20 (ar_X11_121 hX hp) hi2 ?_
    obtain ⟨x3, ex3, h⟩ := lv_some h
    refine v_nI ex3 ?_
    refine v_istore F dX11_surplusOf_21 (Nat.le_of_ble_eq_true rfl) (L' := [mA 1545, mL a1, mU, mI v3, mI v4, mI x3]) rfl ?_
    refine v_aload_n F dX11_surplusOf_23 rfl rfl ?_
    refine gf_X11_950 F dX11_surplusOf_24 hp (v := 1633) rfl ?_
    refine v_iload F dX11_surplusOf_27 rfl ?_
    obtain ⟨hi4, h⟩ := ck_some h
    refine v_zald F dX11_surplusOf_29 (ar_X11_129 hX hp) hi4 ?_
    refine v_if_ne F dX11_surplusOf_30 rfl (fun hq5 => ?_) (fun hq5 => ?_)
    · rw [if_neg hq5] at h
      obtain ⟨x6, ex6, h⟩ := lv_some h
      refine v_iincN F dX11_surplusOf_69 (Nat.le_of_ble_eq_true rfl) rfl ex6 (L' := [mA 1545, mL a1, mU, mI v3, mI x6, mI x3]) rfl ?_
      refine v_goto F dX11_surplusOf_72 rfl ?_
      cases h
      refine v_fgt (L' := [mA 1545, mL a1, mU, mI v3, mI x6, mU]) ⟨Or.inl rfl, Or.inl rfl, Or.inl rfl, Or.inl rfl, Or.inl rfl, Or.inr rfl, trivial⟩ ?_
      exact K
    · rw [if_pos hq5] at h
      refine v_aload_n F dX11_surplusOf_33 rfl rfl ?_
      refine gf_X11_801 F dX11_surplusOf_34 hp (v := 1621) rfl ?_
      refine v_iload F dX11_surplusOf_37 rfl ?_
      refine v_lald F dX11_surplusOf_39 (ar_X11_108 hX hp) hi4 ?_
      refine v_lload_n F dX11_surplusOf_40 rfl rfl ?_
      refine v_lcmp F dX11_surplusOf_41 ?_
      refine v_if_le F dX11_surplusOf_42 rfl (fun hq7 => ?_) (fun hq7 => ?_)
      · rw [if_pos hq7] at h
        obtain ⟨x8, ex8, h⟩ := lv_some h
        refine v_iincN F dX11_surplusOf_69 (Nat.le_of_ble_eq_true rfl) rfl ex8 (L' := [mA 1545, mL a1, mU, mI v3, mI x8, mI x3]) rfl ?_
        refine v_goto F dX11_surplusOf_72 rfl ?_
        cases h
        refine v_fgt (L' := [mA 1545, mL a1, mU, mI v3, mI x8, mU]) ⟨Or.inl rfl, Or.inl rfl, Or.inl rfl, Or.inl rfl, Or.inl rfl, Or.inr rfl, trivial⟩ ?_
        exact K
      · rw [if_neg hq7] at h
        refine v_iload_n F dX11_surplusOf_45 rfl rfl ?_
        refine v_if_lt F dX11_surplusOf_46 rfl (fun hq9 => ?_) (fun hq9 => ?_)
        · rw [if_pos hq9] at h
          refine v_iload F dX11_surplusOf_66 rfl ?_
          refine v_istore_n F dX11_surplusOf_68 rfl (Nat.le_of_ble_eq_true rfl) (L' := [mA 1545, mL a1, mU, mI x3, mI v4, mI x3]) rfl ?_
          obtain ⟨x10, ex10, h⟩ := lv_some h
          refine v_iincN F dX11_surplusOf_69 (Nat.le_of_ble_eq_true rfl) rfl ex10 (L' := [mA 1545, mL a1, mU, mI x3, mI x10, mI x3]) rfl ?_
          refine v_goto F dX11_surplusOf_72 rfl ?_
          cases h
          refine v_fgt (L' := [mA 1545, mL a1, mU, mI x3, mI x10, mU]) ⟨Or.inl rfl, Or.inl rfl, Or.inl rfl, Or.inl rfl, Or.inl rfl, Or.inr rfl, trivial⟩ ?_
          exact K
        · rw [if_neg hq9] at h
          refine v_aload_n F dX11_surplusOf_49 rfl rfl ?_
          refine gf_X11_801 F dX11_surplusOf_50 hp (v := 1621) rfl ?_
          refine v_iload F dX11_surplusOf_53 rfl ?_
          refine v_lald F dX11_surplusOf_55 (ar_X11_108 hX hp) hi4 ?_
          refine v_aload_n F dX11_surplusOf_56 rfl rfl ?_
          refine gf_X11_801 F dX11_surplusOf_57 hp (v := 1621) rfl ?_
          refine v_iload_n F dX11_surplusOf_60 rfl rfl ?_
          obtain ⟨hi11, h⟩ := ck_some h
          refine v_lald F dX11_surplusOf_61 (ar_X11_108 hX hp) hi11 ?_
          refine v_lcmp F dX11_surplusOf_62 ?_
          refine v_if_le F dX11_surplusOf_63 rfl (fun hq12 => ?_) (fun hq12 => ?_)
          · rw [if_pos hq12] at h
            obtain ⟨x13, ex13, h⟩ := lv_some h
            refine v_iincN F dX11_surplusOf_69 (Nat.le_of_ble_eq_true rfl) rfl ex13 (L' := [mA 1545, mL a1, mU, mI v3, mI x13, mI x3]) rfl ?_
            refine v_goto F dX11_surplusOf_72 rfl ?_
            cases h
            refine v_fgt (L' := [mA 1545, mL a1, mU, mI v3, mI x13, mU]) ⟨Or.inl rfl, Or.inl rfl, Or.inl rfl, Or.inl rfl, Or.inl rfl, Or.inr rfl, trivial⟩ ?_
            exact K
          · rw [if_neg hq12] at h
            refine v_iload F dX11_surplusOf_66 rfl ?_
            refine v_istore_n F dX11_surplusOf_68 rfl (Nat.le_of_ble_eq_true rfl) (L' := [mA 1545, mL a1, mU, mI x3, mI v4, mI x3]) rfl ?_
            obtain ⟨x14, ex14, h⟩ := lv_some h
            refine v_iincN F dX11_surplusOf_69 (Nat.le_of_ble_eq_true rfl) rfl ex14 (L' := [mA 1545, mL a1, mU, mI x3, mI x14, mI x3]) rfl ?_
            refine v_goto F dX11_surplusOf_72 rfl ?_
            cases h
            refine v_fgt (L' := [mA 1545, mL a1, mU, mI x3, mI x14, mU]) ⟨Or.inl rfl, Or.inl rfl, Or.inl rfl, Or.inl rfl, Or.inl rfl, Or.inr rfl, trivial⟩ ?_
            exact K
theorem fX11_surplusOf_5_ok {w : Wd} {l : Launch} {G : Cx} {d m dd : Dt} {a1 v3 v4 : Int} {r : Int} {x : Int} (F : Fx w G cX11_surplusOf RX11 6 (some .int) { frames := 0, cells := 0, slots := 0, locals := 0 }) (hX : WF dd m) (hp : PB m 1545 11) (h : fX11_surplusOf_5 d a1 v3 v4 = some x) (K : (fun q => q = r) x) : V w l WF G (QM w G WF (some (mI r)) d m 0 0) d m 0 0 5 [mA 1545, mL a1, mU, mI v3, mI v4, mU] [] := by
  unfold fX11_surplusOf_5 at h
  exact loop_ok (P := fX11_surplusOf_5P w l G (QM w G WF (some (mI r)) d m 0 0) m d a1) (fun s x hx h1 h2 => fX11_surplusOf_5f_ok F hX hp hx (by
    cases x with
    | inl s' => exact h1 s' rfl
    | inr z => cases h2 z rfl; exact K)) h
theorem vm_X11_surplusOf {w : Wd} {l : Launch} {d m : Dt} {a1 : Int} {r : Int} (hp : PB m 1545 11) (h : fX11_surplusOf d a1 = some r) : VM w l WF yX11_surplusOf cX11_surplusOf 6 (some .int) 0 0 0 0 d m [mA 1545, mL a1] (some (mI r)) d m := by
  obtain ⟨x, h, K⟩ : ∃ x, fX11_surplusOf d a1 = some x ∧ x = r := ⟨_, h, rfl⟩
  refine VM.of (L := [mA 1545, mL a1, mU, mU, mU, mU]) (by decide +kernel) rfl (Nat.le_of_ble_eq_true rfl) fun G F _ => v_fact fun _ hX _ _ => ?_
  unfold fX11_surplusOf at h
  refine v_iconst F dX11_surplusOf_0 ⟨by decide, by decide⟩ ?_
  refine v_istore_n F dX11_surplusOf_1 rfl (Nat.le_of_ble_eq_true rfl) (L' := [mA 1545, mL a1, mU, mI (-1), mU, mU]) rfl ?_
  refine v_iconst F dX11_surplusOf_2 ⟨by decide, by decide⟩ ?_
  refine v_istore F dX11_surplusOf_3 (Nat.le_of_ble_eq_true rfl) (L' := [mA 1545, mL a1, mU, mI (-1), mI 0, mU]) rfl ?_
  exact fX11_surplusOf_5_ok F hX hp h K
def fX11_givePart_3P (w : Wd) (l : Launch) (G : Cx) (Q : State → Prop) (m : Dt) (a1 a2 : Int) (s : Dt × Int) : Prop := V w l WF G Q s.1 m 0 0 3 [mA 1545, mI a1, mL a2, mU, mI (s.2)] []
theorem fX11_givePart_3f_ok {w : Wd} {l : Launch} {G : Cx} {m dd : Dt} {a1 a2 : Int} {d' : Dt} {s : Dt × Int} {x : ((Dt × Int) ⊕ Dt)} (F : Fx w G cX11_givePart RX11 5 none { frames := 1, cells := 0, slots := 0, locals := 22 }) (hX : WF dd m) (hp : PB m 1545 11) (h : fX11_givePart_3f a1 a2 s = some x) (K : (Sum.elim (fX11_givePart_3P w l G (QM w G WF none d' m 0 0) m a1 a2) (fun q => q = d')) x) : V w l WF G (QM w G WF none d' m 0 0) s.1 m 0 0 3 [mA 1545, mI a1, mL a2, mU, mI (s.2)] [] := by
  obtain ⟨d, v4⟩ := s
  unfold fX11_givePart_3f at h
  dsimp only at h
  refine v_iload F dX11_givePart_3 rfl ?_
  refine v_aload_n F dX11_givePart_5 rfl rfl ?_
  refine gf_X11_767 F dX11_givePart_6 hp ?_
  refine v_icmp_ge F dX11_givePart_9 rfl (fun hq1 => ?_) (fun hq1 => ?_)
  · rw [if_pos hq1] at h
    obtain ⟨z, hu, ez⟩ := up_some h
    clear h
    subst ez
    have h := hu
    clear hu
    cases h
    cases (show _ = d' from K)
    exact v_vret F dX11_givePart_75
  · rw [if_neg hq1] at h
    refine v_aload_n F dX11_givePart_12 rfl rfl ?_
    refine gf_X11_956 F dX11_givePart_13 hp (v := 1631) rfl ?_
    refine v_iload F dX11_givePart_16 rfl ?_
    obtain ⟨hi2, h⟩ := ck_some h
    refine v_iald F dX11_givePart_18 (ar_X11_127 hX hp) hi2 ?_
    refine v_iload_n F dX11_givePart_19 rfl rfl ?_
    refine v_icmp_eq F dX11_givePart_20 rfl (fun hq3 => ?_) (fun hq3 => ?_)
    · rw [if_pos hq3] at h
      refine v_aload_n F dX11_givePart_26 rfl rfl ?_
      refine gf_X11_953 F dX11_givePart_27 hp (v := 1632) rfl ?_
      refine v_iload F dX11_givePart_30 rfl ?_
      refine v_aload_n F dX11_givePart_32 rfl rfl ?_
      refine gf_X11_953 F dX11_givePart_33 hp (v := 1632) rfl ?_
      refine v_iload F dX11_givePart_36 rfl ?_
      refine v_lald F dX11_givePart_38 (ar_X11_128 hX hp) hi2 ?_
      refine v_aload_n F dX11_givePart_39 rfl rfl ?_
      refine gf_X11_801 F dX11_givePart_40 hp (v := 1621) rfl ?_
      refine v_iload_n F dX11_givePart_43 rfl rfl ?_
      obtain ⟨hi4, h⟩ := ck_some h
      refine v_lald F dX11_givePart_44 (ar_X11_108 hX hp) hi4 ?_
      refine v_lload_n F dX11_givePart_45 rfl rfl ?_
      refine v_lsub F dX11_givePart_46 ?_
      refine v_lmul F dX11_givePart_47 ?_
      refine v_aload_n F dX11_givePart_48 rfl rfl ?_
      refine gf_X11_801 F dX11_givePart_49 hp (v := 1621) rfl ?_
      refine v_iload_n F dX11_givePart_52 rfl rfl ?_
      refine v_lald F dX11_givePart_53 (ar_X11_108 hX hp) hi4 ?_
      obtain ⟨x5, ex5, h⟩ := lv_some h
      refine v_nL ex5 ?_
      obtain ⟨hz6, h⟩ := ck_some h
      refine v_ldiv F dX11_givePart_54 hz6 ?_
      obtain ⟨d7, ed7, h⟩ := sd_some h
      refine v_last F dX11_givePart_55 (ar_X11_128 hX hp) hi2 ?_
      refine v_nD ed7 ?_
      refine v_aload_n F dX11_givePart_56 rfl rfl ?_
      refine gf_X11_956 F dX11_givePart_57 hp (v := 1631) rfl ?_
      refine v_iload F dX11_givePart_60 rfl ?_
      refine v_aload_n F dX11_givePart_62 rfl rfl ?_
      refine v_iload F dX11_givePart_63 rfl ?_
      obtain ⟨x8, hc9, h⟩ := b1_some h
      refine v_callVv (c := 11) F dX11_givePart_65 cv_X11_932 rfl (PB.ob hp hX (Nat.le_of_ble_eq_true rfl)) (Nat.le_of_ble_eq_true rfl) rfl (vm_X11_firstIn hp hc9) rfl (rOk.of rfl) ?_
      obtain ⟨d10, ed10, h⟩ := sd_some h
      refine v_iast F dX11_givePart_68 (ar_X11_127 hX hp) hi2 ?_
      refine v_nD ed10 ?_
      obtain ⟨x11, ex11, h⟩ := lv_some h
      refine v_iincN F dX11_givePart_69 (Nat.le_of_ble_eq_true rfl) rfl ex11 (L' := [mA 1545, mI a1, mL a2, mU, mI x11]) rfl ?_
      refine v_goto F dX11_givePart_72 rfl ?_
      cases h
      exact K
    · rw [if_neg hq3] at h
      refine v_goto F dX11_givePart_23 rfl ?_
      obtain ⟨x12, ex12, h⟩ := lv_some h
      refine v_iincN F dX11_givePart_69 (Nat.le_of_ble_eq_true rfl) rfl ex12 (L' := [mA 1545, mI a1, mL a2, mU, mI x12]) rfl ?_
      refine v_goto F dX11_givePart_72 rfl ?_
      cases h
      exact K
theorem fX11_givePart_3_ok {w : Wd} {l : Launch} {G : Cx} {d m dd : Dt} {a1 a2 v4 : Int} {d' : Dt} {x : Dt} (F : Fx w G cX11_givePart RX11 5 none { frames := 1, cells := 0, slots := 0, locals := 22 }) (hX : WF dd m) (hp : PB m 1545 11) (h : fX11_givePart_3 d a1 a2 v4 = some x) (K : (fun q => q = d') x) : V w l WF G (QM w G WF none d' m 0 0) d m 0 0 3 [mA 1545, mI a1, mL a2, mU, mI v4] [] := by
  unfold fX11_givePart_3 at h
  exact loop_ok (P := fX11_givePart_3P w l G (QM w G WF none d' m 0 0) m a1 a2) (fun s x hx h1 h2 => fX11_givePart_3f_ok F hX hp hx (by
    cases x with
    | inl s' => exact h1 s' rfl
    | inr z => cases h2 z rfl; exact K)) h
theorem vm_X11_givePart {w : Wd} {l : Launch} {d m : Dt} {a1 a2 : Int} {d' : Dt} (hp : PB m 1545 11) (h : fX11_givePart d a1 a2 = some d') : VM w l WF yX11_givePart cX11_givePart 5 none 1 22 0 0 d m [mA 1545, mI a1, mL a2] none d' m := by
  obtain ⟨x, h, K⟩ : ∃ x, fX11_givePart d a1 a2 = some x ∧ x = d' := ⟨_, h, rfl⟩
  refine VM.of (L := [mA 1545, mI a1, mL a2, mU, mU]) (by decide +kernel) rfl (Nat.le_of_ble_eq_true rfl) fun G F _ => v_fact fun _ hX _ _ => ?_
  unfold fX11_givePart at h
  refine v_iconst F dX11_givePart_0 ⟨by decide, by decide⟩ ?_
  refine v_istore F dX11_givePart_1 (Nat.le_of_ble_eq_true rfl) (L' := [mA 1545, mI a1, mL a2, mU, mI 0]) rfl ?_
  exact fX11_givePart_3_ok F hX hp h K
def fX11_giveSome_7P (w : Wd) (l : Launch) (G : Cx) (Q : State → Prop) (m : Dt) (a1 a2 a3 : Int) (s : Dt × Int × Int) : Prop := V w l WF G Q s.1 m 0 0 7 [mA 1545, mI a1, mL a2, mU, mU, mU, mL (s.2.1), mU, mL (s.2.2), mU, mU, mU, mU] []
def fX11_giveSome_27P (w : Wd) (l : Launch) (G : Cx) (Q : State → Prop) (m : Dt) (d : Dt) (a1 a2 a3 v6 v8 : Int) (s : Int × Int) : Prop := V w l WF G Q d m 0 0 27 [mA 1545, mI a1, mL a2, mU, mU, mU, mL v6, mU, mL v8, mU, mI (s.1), mI (s.2), mU] []
def fX11_giveSome_78P (w : Wd) (l : Launch) (G : Cx) (Q : State → Prop) (m : Dt) (d : Dt) (a1 a2 a3 v6 v8 : Int) (s : Int × Int) : Prop := V w l WF G Q d m 0 0 78 [mA 1545, mI a1, mL a2, mU, mU, mU, mL v6, mU, mL v8, mU, mU, mI (s.1), mI (s.2)] []
theorem fX11_giveSome_122_ok {w : Wd} {l : Launch} {G : Cx} {d m dd : Dt} {a1 a2 a3 v6 v8 v12 s0 s1 : Int} {d' : Dt} {r : Int} {x : ((Int × Int) ⊕ ((Dt × Int × Int) ⊕ (Dt × Int)))} (F : Fx w G cX11_giveSome RX11 13 (some .long) { frames := 1, cells := 0, slots := 0, locals := 22 }) (hX : WF dd m) (hp : PB m 1545 11) (h : fX11_giveSome_122 d a1 a2 a3 v6 v8 v12 s0 s1 = some x) (K : (Sum.elim (fX11_giveSome_78P w l G (QM w G WF (some (mL r)) d' m 0 0) m d a1 a2 a3 v6 v8) (Sum.elim (fX11_giveSome_7P w l G (QM w G WF (some (mL r)) d' m 0 0) m a1 a2 a3) (fun q => q = (d', r)))) x) : V w l WF G (QM w G WF (some (mL r)) d' m 0 0) d m 0 0 122 [mA 1545, mI a1, mL a2, mU, mU, mU, mL v6, mU, mL v8, mU, mU, mU, mI v12] [mI s1, mI s0] := by
  unfold fX11_giveSome_122 at h
  refine v_isub F dX11_giveSome_122 ?_
  obtain ⟨x14, ex14, h⟩ := lv_some h
  refine v_nI ex14 ?_
  refine v_istore F dX11_giveSome_123 (Nat.le_of_ble_eq_true rfl) (L' := [mA 1545, mI a1, mL a2, mU, mU, mU, mL v6, mU, mL v8, mU, mU, mI x14, mI v12]) rfl ?_
  obtain ⟨x15, ex15, h⟩ := lv_some h
  refine v_iincN F dX11_giveSome_125 (Nat.le_of_ble_eq_true rfl) rfl ex15 (L' := [mA 1545, mI a1, mL a2, mU, mU, mU, mL v6, mU, mL v8, mU, mU, mI x14, mI x15]) rfl ?_
  refine v_goto F dX11_giveSome_128 rfl ?_
  cases h
  exact K
theorem fX11_giveSome_99_ok {w : Wd} {l : Launch} {G : Cx} {d m dd : Dt} {a1 a2 a3 v6 v8 v11 v12 : Int} {d' : Dt} {r : Int} {x : ((Int × Int) ⊕ ((Dt × Int × Int) ⊕ (Dt × Int)))} (F : Fx w G cX11_giveSome RX11 13 (some .long) { frames := 1, cells := 0, slots := 0, locals := 22 }) (hX : WF dd m) (hp : PB m 1545 11) (h : fX11_giveSome_99 d a1 a2 a3 v6 v8 v11 v12 = some x) (K : (Sum.elim (fX11_giveSome_78P w l G (QM w G WF (some (mL r)) d' m 0 0) m d a1 a2 a3 v6 v8) (Sum.elim (fX11_giveSome_7P w l G (QM w G WF (some (mL r)) d' m 0 0) m a1 a2 a3) (fun q => q = (d', r)))) x) : V w l WF G (QM w G WF (some (mL r)) d' m 0 0) d m 0 0 99 [mA 1545, mI a1, mL a2, mU, mU, mU, mL v6, mU, mL v8, mU, mU, mI v11, mI v12] [] := by
  unfold fX11_giveSome_99 at h
  refine v_iload F dX11_giveSome_99 rfl ?_
  refine v_aload_n F dX11_giveSome_101 rfl rfl ?_
  refine gf_X11_956 F dX11_giveSome_102 hp (v := 1631) rfl ?_
  refine v_aload_n F dX11_giveSome_105 rfl rfl ?_
  refine gf_X11_939 F dX11_giveSome_106 hp (v := 1634) rfl ?_
  refine v_iload F dX11_giveSome_109 rfl ?_
  obtain ⟨hi10, h⟩ := ck_some h
  refine v_iald F dX11_giveSome_111 (ar_X11_130 hX hp) hi10 ?_
  obtain ⟨x11, ex11, h⟩ := lv_some h
  refine v_nI ex11 ?_
  obtain ⟨hi12, h⟩ := ck_some h
  refine v_iald F dX11_giveSome_112 (ar_X11_127 hX hp) hi12 ?_
  refine v_iload_n F dX11_giveSome_113 rfl rfl ?_
  refine v_icmp_ne F dX11_giveSome_114 rfl (fun hq13 => ?_) (fun hq13 => ?_)
  · rw [if_neg hq13] at h
    refine v_iconst F dX11_giveSome_121 ⟨by decide, by decide⟩ ?_
    refine v_fgt (L' := [mA 1545, mI a1, mL a2, mU, mU, mU, mL v6, mU, mL v8, mU, mU, mU, mI v12]) ⟨Or.inl rfl, Or.inl rfl, Or.inl rfl, Or.inl rfl, Or.inl rfl, Or.inl rfl, Or.inl rfl, Or.inl rfl, Or.inl rfl, Or.inl rfl, Or.inl rfl, Or.inr rfl, Or.inl rfl, trivial⟩ ?_
    exact fX11_giveSome_122_ok F hX hp h K
  · rw [if_pos hq13] at h
    refine v_iconst F dX11_giveSome_117 ⟨by decide, by decide⟩ ?_
    refine v_goto F dX11_giveSome_118 rfl ?_
    refine v_fgt (L' := [mA 1545, mI a1, mL a2, mU, mU, mU, mL v6, mU, mL v8, mU, mU, mU, mI v12]) ⟨Or.inl rfl, Or.inl rfl, Or.inl rfl, Or.inl rfl, Or.inl rfl, Or.inl rfl, Or.inl rfl, Or.inl rfl, Or.inl rfl, Or.inl rfl, Or.inl rfl, Or.inr rfl, Or.inl rfl, trivial⟩ ?_
    exact fX11_giveSome_122_ok F hX hp h K
theorem fX11_giveSome_78f_ok {w : Wd} {l : Launch} {G : Cx} {d m dd : Dt} {a1 a2 a3 v6 v8 : Int} {d' : Dt} {r : Int} {s : Int × Int} {x : ((Int × Int) ⊕ ((Dt × Int × Int) ⊕ (Dt × Int)))} (F : Fx w G cX11_giveSome RX11 13 (some .long) { frames := 1, cells := 0, slots := 0, locals := 22 }) (hX : WF dd m) (hp : PB m 1545 11) (h : fX11_giveSome_78f d a1 a2 a3 v6 v8 s = some x) (K : (Sum.elim (fX11_giveSome_78P w l G (QM w G WF (some (mL r)) d' m 0 0) m d a1 a2 a3 v6 v8) (Sum.elim (fX11_giveSome_7P w l G (QM w G WF (some (mL r)) d' m 0 0) m a1 a2 a3) (fun q => q = (d', r)))) x) : V w l WF G (QM w G WF (some (mL r)) d' m 0 0) d m 0 0 78 [mA 1545, mI a1, mL a2, mU, mU, mU, mL v6, mU, mL v8, mU, mU, mI (s.1), mI (s.2)] [] := by
  obtain ⟨v11, v12⟩ := s
  unfold fX11_giveSome_78f at h
  dsimp only at h
  refine v_aload_n F dX11_giveSome_78 rfl rfl ?_
  refine gf_X11_956 F dX11_giveSome_79 hp (v := 1631) rfl ?_
  refine v_aload_n F dX11_giveSome_82 rfl rfl ?_
  refine gf_X11_939 F dX11_giveSome_83 hp (v := 1634) rfl ?_
  refine v_iload F dX11_giveSome_86 rfl ?_
  obtain ⟨hi6, h⟩ := ck_some h
  refine v_iald F dX11_giveSome_88 (ar_X11_130 hX hp) hi6 ?_
  obtain ⟨x7, ex7, h⟩ := lv_some h
  refine v_nI ex7 ?_
  obtain ⟨hi8, h⟩ := ck_some h
  refine v_iald F dX11_giveSome_89 (ar_X11_127 hX hp) hi8 ?_
  refine v_iload_n F dX11_giveSome_90 rfl rfl ?_
  refine v_icmp_ne F dX11_giveSome_91 rfl (fun hq9 => ?_) (fun hq9 => ?_)
  · rw [if_neg hq9] at h
    exact fX11_giveSome_99_ok F hX hp h K
  · rw [if_pos hq9] at h
    refine v_iload F dX11_giveSome_94 rfl ?_
    refine v_if_le F dX11_giveSome_96 rfl (fun hq16 => ?_) (fun hq16 => ?_)
    · rw [if_pos hq16] at h
      obtain ⟨z, hu, ez⟩ := up_some h
      clear h
      subst ez
      have h := hu
      clear hu
      refine v_aload_n F dX11_giveSome_131 rfl rfl ?_
      refine gf_X11_956 F dX11_giveSome_132 hp (v := 1631) rfl ?_
      refine v_aload_n F dX11_giveSome_135 rfl rfl ?_
      refine gf_X11_939 F dX11_giveSome_136 hp (v := 1634) rfl ?_
      refine v_iload F dX11_giveSome_139 rfl ?_
      refine v_iald F dX11_giveSome_141 (ar_X11_130 hX hp) hi6 ?_
      refine v_aload_n F dX11_giveSome_142 rfl rfl ?_
      refine v_aload_n F dX11_giveSome_143 rfl rfl ?_
      refine gf_X11_939 F dX11_giveSome_144 hp (v := 1634) rfl ?_
      refine v_iload F dX11_giveSome_147 rfl ?_
      refine v_iald F dX11_giveSome_149 (ar_X11_130 hX hp) hi6 ?_
      obtain ⟨x17, hc18, h⟩ := b1_some h
      refine v_callVv (c := 11) F dX11_giveSome_150 cv_X11_932 rfl (PB.ob hp hX (Nat.le_of_ble_eq_true rfl)) (Nat.le_of_ble_eq_true rfl) rfl (vm_X11_firstIn hp hc18) rfl (rOk.of rfl) ?_
      obtain ⟨x19, ex19, h⟩ := lv_some h
      refine v_n2 ex19 ?_
      obtain ⟨hi20, h⟩ := ck_some h
      obtain ⟨d21, ed21, h⟩ := sd_some h
      refine v_iast F dX11_giveSome_153 (ar_X11_127 hX hp) hi20 ?_
      refine v_nD ed21 ?_
      refine v_lload F dX11_giveSome_154 rfl ?_
      refine v_lconst1 F dX11_giveSome_156 ?_
      refine v_ladd F dX11_giveSome_157 ?_
      obtain ⟨x22, ex22, h⟩ := lv_some h
      refine v_nL ex22 ?_
      refine v_lstore F dX11_giveSome_158 (Nat.le_of_ble_eq_true rfl) (L' := [mA 1545, mI a1, mL a2, mU, mU, mU, mL v6, mU, mL x22, mU, mU, mI v11, mI v12]) rfl ?_
      refine v_goto F dX11_giveSome_160 rfl ?_
      cases h
      refine v_fgt (L' := [mA 1545, mI a1, mL a2, mU, mU, mU, mL v6, mU, mL x22, mU, mU, mU, mU]) ⟨Or.inl rfl, Or.inl rfl, Or.inl rfl, Or.inl rfl, Or.inl rfl, Or.inl rfl, Or.inl rfl, Or.inl rfl, Or.inl rfl, Or.inl rfl, Or.inl rfl, Or.inr rfl, Or.inr rfl, trivial⟩ ?_
      exact K
    · rw [if_neg hq16] at h
      exact fX11_giveSome_99_ok F hX hp h K
theorem fX11_giveSome_78_ok {w : Wd} {l : Launch} {G : Cx} {d m dd : Dt} {a1 a2 a3 v6 v8 v11 v12 : Int} {d' : Dt} {r : Int} {x : ((Dt × Int × Int) ⊕ (Dt × Int))} (F : Fx w G cX11_giveSome RX11 13 (some .long) { frames := 1, cells := 0, slots := 0, locals := 22 }) (hX : WF dd m) (hp : PB m 1545 11) (h : fX11_giveSome_78 d a1 a2 a3 v6 v8 v11 v12 = some x) (K : (Sum.elim (fX11_giveSome_7P w l G (QM w G WF (some (mL r)) d' m 0 0) m a1 a2 a3) (fun q => q = (d', r))) x) : V w l WF G (QM w G WF (some (mL r)) d' m 0 0) d m 0 0 78 [mA 1545, mI a1, mL a2, mU, mU, mU, mL v6, mU, mL v8, mU, mU, mI v11, mI v12] [] := by
  unfold fX11_giveSome_78 at h
  exact loop_ok (P := fX11_giveSome_78P w l G (QM w G WF (some (mL r)) d' m 0 0) m d a1 a2 a3 v6 v8) (fun s x hx h1 h2 => fX11_giveSome_78f_ok F hX hp hx (by
    cases x with
    | inl s' => exact h1 s' rfl
    | inr z => cases h2 z rfl; exact K)) h
theorem fX11_giveSome_54_ok {w : Wd} {l : Launch} {G : Cx} {d m dd : Dt} {a1 a2 a3 v6 v8 v11 s0 s1 : Int} {d' : Dt} {r : Int} {x : ((Int × Int) ⊕ ((Dt × Int × Int) ⊕ (Dt × Int)))} (F : Fx w G cX11_giveSome RX11 13 (some .long) { frames := 1, cells := 0, slots := 0, locals := 22 }) (hX : WF dd m) (hp : PB m 1545 11) (h : fX11_giveSome_54 d a1 a2 a3 v6 v8 v11 s0 s1 = some x) (K : (Sum.elim (fX11_giveSome_27P w l G (QM w G WF (some (mL r)) d' m 0 0) m d a1 a2 a3 v6 v8) (Sum.elim (fX11_giveSome_7P w l G (QM w G WF (some (mL r)) d' m 0 0) m a1 a2 a3) (fun q => q = (d', r)))) x) : V w l WF G (QM w G WF (some (mL r)) d' m 0 0) d m 0 0 54 [mA 1545, mI a1, mL a2, mU, mU, mU, mL v6, mU, mL v8, mU, mU, mI v11, mU] [mI s1, mI s0] := by
  unfold fX11_giveSome_54 at h
  refine v_iadd F dX11_giveSome_54 ?_
  obtain ⟨x25, ex25, h⟩ := lv_some h
  refine v_nI ex25 ?_
  refine v_istore F dX11_giveSome_55 (Nat.le_of_ble_eq_true rfl) (L' := [mA 1545, mI a1, mL a2, mU, mU, mU, mL v6, mU, mL v8, mU, mI x25, mI v11, mU]) rfl ?_
  obtain ⟨x26, ex26, h⟩ := lv_some h
  refine v_iincN F dX11_giveSome_57 (Nat.le_of_ble_eq_true rfl) rfl ex26 (L' := [mA 1545, mI a1, mL a2, mU, mU, mU, mL v6, mU, mL v8, mU, mI x25, mI x26, mU]) rfl ?_
  refine v_goto F dX11_giveSome_60 rfl ?_
  cases h
  exact K
theorem fX11_giveSome_27f_ok {w : Wd} {l : Launch} {G : Cx} {d m dd : Dt} {a1 a2 a3 v6 v8 : Int} {d' : Dt} {r : Int} {s : Int × Int} {x : ((Int × Int) ⊕ ((Dt × Int × Int) ⊕ (Dt × Int)))} (F : Fx w G cX11_giveSome RX11 13 (some .long) { frames := 1, cells := 0, slots := 0, locals := 22 }) (hX : WF dd m) (hp : PB m 1545 11) (h : fX11_giveSome_27f d a1 a2 a3 v6 v8 s = some x) (K : (Sum.elim (fX11_giveSome_27P w l G (QM w G WF (some (mL r)) d' m 0 0) m d a1 a2 a3 v6 v8) (Sum.elim (fX11_giveSome_7P w l G (QM w G WF (some (mL r)) d' m 0 0) m a1 a2 a3) (fun q => q = (d', r)))) x) : V w l WF G (QM w G WF (some (mL r)) d' m 0 0) d m 0 0 27 [mA 1545, mI a1, mL a2, mU, mU, mU, mL v6, mU, mL v8, mU, mI (s.1), mI (s.2), mU] [] := by
  obtain ⟨v10, v11⟩ := s
  unfold fX11_giveSome_27f at h
  dsimp only at h
  refine v_iload F dX11_giveSome_27 rfl ?_
  refine v_aload_n F dX11_giveSome_29 rfl rfl ?_
  refine gf_X11_767 F dX11_giveSome_30 hp ?_
  refine v_icmp_ge F dX11_giveSome_33 rfl (fun hq3 => ?_) (fun hq3 => ?_)
  · rw [if_pos hq3] at h
    obtain ⟨z, hu, ez⟩ := up_some h
    clear h
    subst ez
    have h := hu
    clear hu
    refine v_lload F dX11_giveSome_63 rfl ?_
    refine v_bipush F dX11_giveSome_65 rfl ⟨by decide, by decide⟩ ?_
    refine v_lushr F dX11_giveSome_67 ?_
    refine v_iload F dX11_giveSome_68 rfl ?_
    refine v_i2l F dX11_giveSome_70 ?_
    obtain ⟨hz4, h⟩ := ck_some h
    refine v_lrem F dX11_giveSome_71 hz4 ?_
    refine v_l2i F dX11_giveSome_72 ?_
    obtain ⟨x5, ex5, h⟩ := lv_some h
    refine v_nI ex5 ?_
    refine v_istore F dX11_giveSome_73 (Nat.le_of_ble_eq_true rfl) (L' := [mA 1545, mI a1, mL a2, mU, mU, mU, mL v6, mU, mL v8, mU, mI v10, mI x5, mU]) rfl ?_
    refine v_iconst F dX11_giveSome_75 ⟨by decide, by decide⟩ ?_
    refine v_istore F dX11_giveSome_76 (Nat.le_of_ble_eq_true rfl) (L' := [mA 1545, mI a1, mL a2, mU, mU, mU, mL v6, mU, mL v8, mU, mI v10, mI x5, mI 0]) rfl ?_
    refine v_fgt (L' := [mA 1545, mI a1, mL a2, mU, mU, mU, mL v6, mU, mL v8, mU, mU, mI x5, mI 0]) ⟨Or.inl rfl, Or.inl rfl, Or.inl rfl, Or.inl rfl, Or.inl rfl, Or.inl rfl, Or.inl rfl, Or.inl rfl, Or.inl rfl, Or.inl rfl, Or.inr rfl, Or.inl rfl, Or.inl rfl, trivial⟩ ?_
    exact fX11_giveSome_78_ok F hX hp h K
  · rw [if_neg hq3] at h
    refine v_iload F dX11_giveSome_36 rfl ?_
    refine v_aload_n F dX11_giveSome_38 rfl rfl ?_
    refine gf_X11_956 F dX11_giveSome_39 hp (v := 1631) rfl ?_
    refine v_iload F dX11_giveSome_42 rfl ?_
    obtain ⟨hi23, h⟩ := ck_some h
    refine v_iald F dX11_giveSome_44 (ar_X11_127 hX hp) hi23 ?_
    refine v_iload_n F dX11_giveSome_45 rfl rfl ?_
    refine v_icmp_ne F dX11_giveSome_46 rfl (fun hq24 => ?_) (fun hq24 => ?_)
    · rw [if_neg hq24] at h
      refine v_iconst F dX11_giveSome_53 ⟨by decide, by decide⟩ ?_
      refine v_fgt (L' := [mA 1545, mI a1, mL a2, mU, mU, mU, mL v6, mU, mL v8, mU, mU, mI v11, mU]) ⟨Or.inl rfl, Or.inl rfl, Or.inl rfl, Or.inl rfl, Or.inl rfl, Or.inl rfl, Or.inl rfl, Or.inl rfl, Or.inl rfl, Or.inl rfl, Or.inr rfl, Or.inl rfl, Or.inl rfl, trivial⟩ ?_
      exact fX11_giveSome_54_ok F hX hp h K
    · rw [if_pos hq24] at h
      refine v_iconst F dX11_giveSome_49 ⟨by decide, by decide⟩ ?_
      refine v_goto F dX11_giveSome_50 rfl ?_
      refine v_fgt (L' := [mA 1545, mI a1, mL a2, mU, mU, mU, mL v6, mU, mL v8, mU, mU, mI v11, mU]) ⟨Or.inl rfl, Or.inl rfl, Or.inl rfl, Or.inl rfl, Or.inl rfl, Or.inl rfl, Or.inl rfl, Or.inl rfl, Or.inl rfl, Or.inl rfl, Or.inr rfl, Or.inl rfl, Or.inl rfl, trivial⟩ ?_
      exact fX11_giveSome_54_ok F hX hp h K
theorem fX11_giveSome_27_ok {w : Wd} {l : Launch} {G : Cx} {d m dd : Dt} {a1 a2 a3 v6 v8 v10 v11 : Int} {d' : Dt} {r : Int} {x : ((Dt × Int × Int) ⊕ (Dt × Int))} (F : Fx w G cX11_giveSome RX11 13 (some .long) { frames := 1, cells := 0, slots := 0, locals := 22 }) (hX : WF dd m) (hp : PB m 1545 11) (h : fX11_giveSome_27 d a1 a2 a3 v6 v8 v10 v11 = some x) (K : (Sum.elim (fX11_giveSome_7P w l G (QM w G WF (some (mL r)) d' m 0 0) m a1 a2 a3) (fun q => q = (d', r))) x) : V w l WF G (QM w G WF (some (mL r)) d' m 0 0) d m 0 0 27 [mA 1545, mI a1, mL a2, mU, mU, mU, mL v6, mU, mL v8, mU, mI v10, mI v11, mU] [] := by
  unfold fX11_giveSome_27 at h
  exact loop_ok (P := fX11_giveSome_27P w l G (QM w G WF (some (mL r)) d' m 0 0) m d a1 a2 a3 v6 v8) (fun s x hx h1 h2 => fX11_giveSome_27f_ok F hX hp hx (by
    cases x with
    | inl s' => exact h1 s' rfl
    | inr z => cases h2 z rfl; exact K)) h
theorem fX11_giveSome_7f_ok {w : Wd} {l : Launch} {G : Cx} {m dd : Dt} {a1 a2 a3 : Int} {d' : Dt} {r : Int} {s : Dt × Int × Int} {x : ((Dt × Int × Int) ⊕ (Dt × Int))} (F : Fx w G cX11_giveSome RX11 13 (some .long) { frames := 1, cells := 0, slots := 0, locals := 22 }) (hX : WF dd m) (hp : PB m 1545 11) (h : fX11_giveSome_7f a1 a2 a3 s = some x) (K : (Sum.elim (fX11_giveSome_7P w l G (QM w G WF (some (mL r)) d' m 0 0) m a1 a2 a3) (fun q => q = (d', r))) x) : V w l WF G (QM w G WF (some (mL r)) d' m 0 0) s.1 m 0 0 7 [mA 1545, mI a1, mL a2, mU, mU, mU, mL (s.2.1), mU, mL (s.2.2), mU, mU, mU, mU] [] := by
  obtain ⟨d, v6, v8⟩ := s
  unfold fX11_giveSome_7f at h
  dsimp only at h
  refine v_lload F dX11_giveSome_7 rfl ?_
  refine v_lload_n F dX11_giveSome_9 rfl rfl ?_
  refine v_lcmp F dX11_giveSome_10 ?_
  refine v_if_ge F dX11_giveSome_11 rfl (fun hq1 => ?_) (fun hq1 => ?_)
  · rw [if_pos hq1] at h
    obtain ⟨z, hu, ez⟩ := up_some h
    clear h
    subst ez
    have h := hu
    clear hu
    refine v_lload F dX11_giveSome_163 rfl ?_
    cases h
    cases (show _ = (d', r) from K)
    exact v_lret F dX11_giveSome_165
  · rw [if_neg hq1] at h
    refine v_lload F dX11_giveSome_14 rfl ?_
    refine v_callSv F dX11_giveSome_16 cs_X11_645 rfl (vm_X11_nextOf) rfl (rOk.of rfl) ?_
    obtain ⟨x2, ex2, h⟩ := lv_some h
    refine v_nL ex2 ?_
    refine v_lstore F dX11_giveSome_19 (Nat.le_of_ble_eq_true rfl) (L' := [mA 1545, mI a1, mL a2, mU, mU, mU, mL x2, mU, mL v8, mU, mU, mU, mU]) rfl ?_
    refine v_iconst F dX11_giveSome_21 ⟨by decide, by decide⟩ ?_
    refine v_istore F dX11_giveSome_22 (Nat.le_of_ble_eq_true rfl) (L' := [mA 1545, mI a1, mL a2, mU, mU, mU, mL x2, mU, mL v8, mU, mI 0, mU, mU]) rfl ?_
    refine v_iconst F dX11_giveSome_24 ⟨by decide, by decide⟩ ?_
    refine v_istore F dX11_giveSome_25 (Nat.le_of_ble_eq_true rfl) (L' := [mA 1545, mI a1, mL a2, mU, mU, mU, mL x2, mU, mL v8, mU, mI 0, mI 0, mU]) rfl ?_
    exact fX11_giveSome_27_ok F hX hp h K
theorem fX11_giveSome_7_ok {w : Wd} {l : Launch} {G : Cx} {d m dd : Dt} {a1 a2 a3 v6 v8 : Int} {d' : Dt} {r : Int} {x : (Dt × Int)} (F : Fx w G cX11_giveSome RX11 13 (some .long) { frames := 1, cells := 0, slots := 0, locals := 22 }) (hX : WF dd m) (hp : PB m 1545 11) (h : fX11_giveSome_7 d a1 a2 a3 v6 v8 = some x) (K : (fun q => q = (d', r)) x) : V w l WF G (QM w G WF (some (mL r)) d' m 0 0) d m 0 0 7 [mA 1545, mI a1, mL a2, mU, mU, mU, mL v6, mU, mL v8, mU, mU, mU, mU] [] := by
  unfold fX11_giveSome_7 at h
  exact loop_ok (P := fX11_giveSome_7P w l G (QM w G WF (some (mL r)) d' m 0 0) m a1 a2 a3) (fun s x hx h1 h2 => fX11_giveSome_7f_ok F hX hp hx (by
    cases x with
    | inl s' => exact h1 s' rfl
    | inr z => cases h2 z rfl; exact K)) h
theorem vm_X11_giveSome {w : Wd} {l : Launch} {d m : Dt} {a1 a2 a3 : Int} {d' : Dt} {r : Int} (hp : PB m 1545 11) (h : fX11_giveSome d a1 a2 a3 = some (d', r)) : VM w l WF yX11_giveSome cX11_giveSome 13 (some .long) 1 22 0 0 d m [mA 1545, mI a1, mL a2, mL a3] (some (mL r)) d' m := by
  obtain ⟨x, h, K⟩ : ∃ x, fX11_giveSome d a1 a2 a3 = some x ∧ x = (d', r) := ⟨_, h, rfl⟩
  refine VM.of (L := [mA 1545, mI a1, mL a2, mU, mL a3, mU, mU, mU, mU, mU, mU, mU, mU]) (by decide +kernel) rfl (Nat.le_of_ble_eq_true rfl) fun G F _ => v_fact fun _ hX _ _ => ?_
  unfold fX11_giveSome at h
  refine v_lload F dX11_giveSome_0 rfl ?_
  refine v_lstore F dX11_giveSome_2 (Nat.le_of_ble_eq_true rfl) (L' := [mA 1545, mI a1, mL a2, mU, mL a3, mU, mL a3, mU, mU, mU, mU, mU, mU]) rfl ?_
  refine v_lconst0 F dX11_giveSome_4 ?_
  refine v_lstore F dX11_giveSome_5 (Nat.le_of_ble_eq_true rfl) (L' := [mA 1545, mI a1, mL a2, mU, mL a3, mU, mL a3, mU, mL 0, mU, mU, mU, mU]) rfl ?_
  refine v_fgt (L' := [mA 1545, mI a1, mL a2, mU, mU, mU, mL a3, mU, mL 0, mU, mU, mU, mU]) ⟨Or.inl rfl, Or.inl rfl, Or.inl rfl, Or.inl rfl, Or.inr rfl, Or.inl rfl, Or.inl rfl, Or.inl rfl, Or.inl rfl, Or.inl rfl, Or.inl rfl, Or.inl rfl, Or.inl rfl, trivial⟩ ?_
  exact fX11_giveSome_7_ok F hX hp h K
def fX11_countTransfer_72P (w : Wd) (l : Launch) (G : Cx) (Q : State → Prop) (m : Dt) (a1 v2 v4 v6 : Int) (s : Dt × Int) : Prop := V w l WF G Q s.1 m 0 0 72 [mA 1545, mI a1, mL v2, mU, mL v4, mU, mL v6, mU, mI (s.2), mU, mU, mU] []
def fX11_countTransfer_98P (w : Wd) (l : Launch) (G : Cx) (Q : State → Prop) (m : Dt) (a1 v2 v4 v6 : Int) (s : Dt × Int) : Prop := V w l WF G Q s.1 m 0 0 98 [mA 1545, mI a1, mL v2, mU, mL v4, mU, mL v6, mU, mI (s.2), mU, mU, mU] []
def fX11_countTransfer_134P (w : Wd) (l : Launch) (G : Cx) (Q : State → Prop) (m : Dt) (a1 v4 : Int) (s : Dt × Int) : Prop := V w l WF G Q s.1 m 0 0 134 [mA 1545, mI a1, mU, mU, mL v4, mU, mL (s.2), mU, mU, mU, mU, mU] []
def fX11_countTransfer_141P (w : Wd) (l : Launch) (G : Cx) (Q : State → Prop) (m : Dt) (a1 v4 v6 : Int) (s : Dt × Int) : Prop := V w l WF G Q s.1 m 0 0 141 [mA 1545, mI a1, mU, mU, mL v4, mU, mL v6, mU, mI (s.2), mU, mU, mU] []
def fX11_countTransfer_191P (w : Wd) (l : Launch) (G : Cx) (Q : State → Prop) (m : Dt) (a1 v4 v6 : Int) (s : Dt × Int) : Prop := V w l WF G Q s.1 m 0 0 191 [mA 1545, mI a1, mU, mU, mL v4, mU, mL v6, mU, mI (s.2), mU, mU, mU] []
def fX11_countTransfer_278P (w : Wd) (l : Launch) (G : Cx) (Q : State → Prop) (m : Dt) (a1 v4 v6 v10 : Int) (s : Dt × Int) : Prop := V w l WF G Q s.1 m 0 0 278 [mA 1545, mI a1, mU, mU, mL v4, mU, mL v6, mU, mU, mU, mI v10, mI (s.2)] []
theorem fX11_countTransfer_321_ok {w : Wd} {l : Launch} {G : Cx} {d m dd : Dt} {a1 v4 v6 v10 v11 s1 s2 : Int} {d' : Dt} {x : ((Dt × Int) ⊕ ((Dt × Int) ⊕ Dt))} (F : Fx w G cX11_countTransfer RX11 12 none { frames := 3, cells := 0, slots := 0, locals := 72 }) (hX : WF dd m) (hp : PB m 1545 11) (h : fX11_countTransfer_321 d a1 v4 v6 v10 v11 s1 s2 = some x) (K : (Sum.elim (fX11_countTransfer_278P w l G (QM w G WF none d' m 0 0) m a1 v4 v6 v10) (Sum.elim (fX11_countTransfer_134P w l G (QM w G WF none d' m 0 0) m a1 v4) (fun q => q = d'))) x) : V w l WF G (QM w G WF none d' m 0 0) d m 0 0 321 [mA 1545, mI a1, mU, mU, mL v4, mU, mL v6, mU, mU, mU, mI v10, mI v11] [mI s2, mI s1, mA 1631] := by
  unfold fX11_countTransfer_321 at h
  obtain ⟨hi47, h⟩ := ck_some h
  obtain ⟨d48, ed48, h⟩ := sd_some h
  refine v_iast F dX11_countTransfer_321 (ar_X11_127 hX hp) hi47 ?_
  refine v_nD ed48 ?_
  obtain ⟨x49, ex49, h⟩ := lv_some h
  refine v_iincN F dX11_countTransfer_322 (Nat.le_of_ble_eq_true rfl) rfl ex49 (L' := [mA 1545, mI a1, mU, mU, mL v4, mU, mL v6, mU, mU, mU, mI v10, mI x49]) rfl ?_
  refine v_goto F dX11_countTransfer_325 rfl ?_
  cases h
  exact K
theorem fX11_countTransfer_278f_ok {w : Wd} {l : Launch} {G : Cx} {m dd : Dt} {a1 v4 v6 v10 : Int} {d' : Dt} {s : Dt × Int} {x : ((Dt × Int) ⊕ ((Dt × Int) ⊕ Dt))} (F : Fx w G cX11_countTransfer RX11 12 none { frames := 3, cells := 0, slots := 0, locals := 72 }) (hX : WF dd m) (hp : PB m 1545 11) (h : fX11_countTransfer_278f a1 v4 v6 v10 s = some x) (K : (Sum.elim (fX11_countTransfer_278P w l G (QM w G WF none d' m 0 0) m a1 v4 v6 v10) (Sum.elim (fX11_countTransfer_134P w l G (QM w G WF none d' m 0 0) m a1 v4) (fun q => q = d'))) x) : V w l WF G (QM w G WF none d' m 0 0) s.1 m 0 0 278 [mA 1545, mI a1, mU, mU, mL v4, mU, mL v6, mU, mU, mU, mI v10, mI (s.2)] [] := by
  obtain ⟨d, v11⟩ := s
  unfold fX11_countTransfer_278f at h
  dsimp only at h
  refine v_iload F dX11_countTransfer_278 rfl ?_
  refine v_aload_n F dX11_countTransfer_280 rfl rfl ?_
  refine gf_X11_767 F dX11_countTransfer_281 hp ?_
  refine v_icmp_ge F dX11_countTransfer_284 rfl (fun hq44 => ?_) (fun hq44 => ?_)
  · rw [if_pos hq44] at h
    obtain ⟨z, hu, ez⟩ := up_some h
    clear h
    subst ez
    have h := hu
    clear hu
    refine v_goto F dX11_countTransfer_328 rfl ?_
    cases h
    refine v_fgt (L' := [mA 1545, mI a1, mU, mU, mL v4, mU, mL v6, mU, mU, mU, mU, mU]) ⟨Or.inl rfl, Or.inl rfl, Or.inl rfl, Or.inl rfl, Or.inl rfl, Or.inl rfl, Or.inl rfl, Or.inl rfl, Or.inl rfl, Or.inl rfl, Or.inr rfl, Or.inr rfl, trivial⟩ ?_
    exact K
  · rw [if_neg hq44] at h
    refine v_aload_n F dX11_countTransfer_287 rfl rfl ?_
    refine gf_X11_956 F dX11_countTransfer_288 hp (v := 1631) rfl ?_
    refine v_iload F dX11_countTransfer_291 rfl ?_
    refine v_aload_n F dX11_countTransfer_293 rfl rfl ?_
    refine gf_X11_956 F dX11_countTransfer_294 hp (v := 1631) rfl ?_
    refine v_iload F dX11_countTransfer_297 rfl ?_
    obtain ⟨hi45, h⟩ := ck_some h
    refine v_iald F dX11_countTransfer_299 (ar_X11_127 hX hp) hi45 ?_
    refine v_iload F dX11_countTransfer_300 rfl ?_
    refine v_icmp_ne F dX11_countTransfer_302 rfl (fun hq46 => ?_) (fun hq46 => ?_)
    · rw [if_neg hq46] at h
      refine v_aload_n F dX11_countTransfer_314 rfl rfl ?_
      refine gf_X11_956 F dX11_countTransfer_315 hp (v := 1631) rfl ?_
      refine v_iload F dX11_countTransfer_318 rfl ?_
      refine v_iald F dX11_countTransfer_320 (ar_X11_127 hX hp) hi45 ?_
      exact fX11_countTransfer_321_ok F hX hp h K
    · rw [if_pos hq46] at h
      refine v_aload_n F dX11_countTransfer_305 rfl rfl ?_
      refine v_iload F dX11_countTransfer_306 rfl ?_
      obtain ⟨x50, hc51, h⟩ := b1_some h
      refine v_callVv (c := 11) F dX11_countTransfer_308 cv_X11_932 rfl (PB.ob hp hX (Nat.le_of_ble_eq_true rfl)) (Nat.le_of_ble_eq_true rfl) rfl (vm_X11_firstIn hp hc51) rfl (rOk.of rfl) ?_
      refine v_goto F dX11_countTransfer_311 rfl ?_
      exact fX11_countTransfer_321_ok F hX hp h K
theorem fX11_countTransfer_278_ok {w : Wd} {l : Launch} {G : Cx} {d m dd : Dt} {a1 v4 v6 v10 v11 : Int} {d' : Dt} {x : ((Dt × Int) ⊕ Dt)} (F : Fx w G cX11_countTransfer RX11 12 none { frames := 3, cells := 0, slots := 0, locals := 72 }) (hX : WF dd m) (hp : PB m 1545 11) (h : fX11_countTransfer_278 d a1 v4 v6 v10 v11 = some x) (K : (Sum.elim (fX11_countTransfer_134P w l G (QM w G WF none d' m 0 0) m a1 v4) (fun q => q = d')) x) : V w l WF G (QM w G WF none d' m 0 0) d m 0 0 278 [mA 1545, mI a1, mU, mU, mL v4, mU, mL v6, mU, mU, mU, mI v10, mI v11] [] := by
  unfold fX11_countTransfer_278 at h
  exact loop_ok (P := fX11_countTransfer_278P w l G (QM w G WF none d' m 0 0) m a1 v4 v6 v10) (fun s x hx h1 h2 => fX11_countTransfer_278f_ok F hX hp hx (by
    cases x with
    | inl s' => exact h1 s' rfl
    | inr z => cases h2 z rfl; exact K)) h
theorem fX11_countTransfer_228_ok {w : Wd} {l : Launch} {G : Cx} {d m dd : Dt} {a1 v4 v6 v8 s1 s2 : Int} {d' : Dt} {x : ((Dt × Int) ⊕ ((Dt × Int) ⊕ Dt))} (F : Fx w G cX11_countTransfer RX11 12 none { frames := 3, cells := 0, slots := 0, locals := 72 }) (hX : WF dd m) (hp : PB m 1545 11) (h : fX11_countTransfer_228 d a1 v4 v6 v8 s1 s2 = some x) (K : (Sum.elim (fX11_countTransfer_191P w l G (QM w G WF none d' m 0 0) m a1 v4 v6) (Sum.elim (fX11_countTransfer_134P w l G (QM w G WF none d' m 0 0) m a1 v4) (fun q => q = d'))) x) : V w l WF G (QM w G WF none d' m 0 0) d m 0 0 228 [mA 1545, mI a1, mU, mU, mL v4, mU, mL v6, mU, mI v8, mU, mU, mU] [mL s2, mI s1, mA 1621] := by
  unfold fX11_countTransfer_228 at h
  obtain ⟨hi54, h⟩ := ck_some h
  obtain ⟨d55, ed55, h⟩ := sd_some h
  refine v_last F dX11_countTransfer_228 (ar_X11_108 hX hp) hi54 ?_
  refine v_nD ed55 ?_
  obtain ⟨x56, ex56, h⟩ := lv_some h
  refine v_iincN F dX11_countTransfer_229 (Nat.le_of_ble_eq_true rfl) rfl ex56 (L' := [mA 1545, mI a1, mU, mU, mL v4, mU, mL v6, mU, mI x56, mU, mU, mU]) rfl ?_
  refine v_goto F dX11_countTransfer_232 rfl ?_
  cases h
  exact K
theorem fX11_countTransfer_191f_ok {w : Wd} {l : Launch} {G : Cx} {m dd : Dt} {a1 v4 v6 : Int} {d' : Dt} {s : Dt × Int} {x : ((Dt × Int) ⊕ ((Dt × Int) ⊕ Dt))} (F : Fx w G cX11_countTransfer RX11 12 none { frames := 3, cells := 0, slots := 0, locals := 72 }) (hX : WF dd m) (hp : PB m 1545 11) (h : fX11_countTransfer_191f a1 v4 v6 s = some x) (K : (Sum.elim (fX11_countTransfer_191P w l G (QM w G WF none d' m 0 0) m a1 v4 v6) (Sum.elim (fX11_countTransfer_134P w l G (QM w G WF none d' m 0 0) m a1 v4) (fun q => q = d'))) x) : V w l WF G (QM w G WF none d' m 0 0) s.1 m 0 0 191 [mA 1545, mI a1, mU, mU, mL v4, mU, mL v6, mU, mI (s.2), mU, mU, mU] [] := by
  obtain ⟨d, v8⟩ := s
  unfold fX11_countTransfer_191f at h
  dsimp only at h
  refine v_iload F dX11_countTransfer_191 rfl ?_
  refine v_aload_n F dX11_countTransfer_193 rfl rfl ?_
  refine gf_X11_755 F dX11_countTransfer_194 hp ?_
  refine v_icmp_ge F dX11_countTransfer_197 rfl (fun hq18 => ?_) (fun hq18 => ?_)
  · rw [if_pos hq18] at h
    obtain ⟨z, hu, ez⟩ := up_some h
    clear h
    subst ez
    have h := hu
    clear hu
    refine v_aload_n F dX11_countTransfer_235 rfl rfl ?_
    obtain ⟨d19, hc20, h⟩ := bd_some h
    refine v_callV0 (c := 11) F dX11_countTransfer_236 cv_X11_868 rfl (PB.ob hp hX (Nat.le_of_ble_eq_true rfl)) (Nat.le_of_ble_eq_true rfl) rfl (vm_X11_tell hp hc20) rfl (rOk.of rfl) ?_
    refine v_aload_n F dX11_countTransfer_239 rfl rfl ?_
    refine v_lload F dX11_countTransfer_240 rfl ?_
    obtain ⟨d21, x23, hc22, h⟩ := b2_some h
    refine v_callVv (c := 11) F dX11_countTransfer_242 cv_X11_925 rfl (PB.ob hp hX (Nat.le_of_ble_eq_true rfl)) (Nat.le_of_ble_eq_true rfl) rfl (vm_X11_electFrom hp hc22) rfl (rOk.of rfl) ?_
    refine v_istore F dX11_countTransfer_245 (Nat.le_of_ble_eq_true rfl) (L' := [mA 1545, mI a1, mU, mU, mL v4, mU, mL v6, mU, mI x23, mU, mU, mU]) rfl ?_
    refine v_aload_n F dX11_countTransfer_247 rfl rfl ?_
    obtain ⟨d24, x26, hc25, h⟩ := b2_some h
    refine v_callVv (c := 11) F dX11_countTransfer_248 cv_X11_959 rfl (PB.ob hp hX (Nat.le_of_ble_eq_true rfl)) (Nat.le_of_ble_eq_true rfl) rfl (vm_X11_isThrough hp hc25) rfl (rOk.of rfl) ?_
    refine v_if_eq F dX11_countTransfer_251 rfl (fun hq27 => ?_) (fun hq27 => ?_)
    · rw [if_pos hq27] at h
      refine v_aload_n F dX11_countTransfer_255 rfl rfl ?_
      refine v_lload F dX11_countTransfer_256 rfl ?_
      obtain ⟨x28, hc29, h⟩ := b1_some h
      refine v_callVv (c := 11) F dX11_countTransfer_258 cv_X11_962 rfl (PB.ob hp hX (Nat.le_of_ble_eq_true rfl)) (Nat.le_of_ble_eq_true rfl) rfl (vm_X11_surplusOf hp hc29) rfl (rOk.of rfl) ?_
      refine v_istore F dX11_countTransfer_261 (Nat.le_of_ble_eq_true rfl) (L' := [mA 1545, mI a1, mU, mU, mL v4, mU, mL v6, mU, mI x23, mI x28, mU, mU]) rfl ?_
      refine v_iload F dX11_countTransfer_263 rfl ?_
      refine v_if_ge F dX11_countTransfer_265 rfl (fun hq30 => ?_) (fun hq30 => ?_)
      · rw [if_pos hq30] at h
        refine v_aload_n F dX11_countTransfer_331 rfl rfl ?_
        refine gf_X11_950 F dX11_countTransfer_332 hp (v := 1633) rfl ?_
        refine v_iload F dX11_countTransfer_335 rfl ?_
        refine v_iconst F dX11_countTransfer_337 ⟨by decide, by decide⟩ ?_
        obtain ⟨hi31, h⟩ := ck_some h
        obtain ⟨d32, ed32, h⟩ := sd_some h
        refine v_zast F dX11_countTransfer_338 (ar_X11_129 hX hp) hi31 ?_
        refine v_nD ed32 ?_
        refine v_aload_n F dX11_countTransfer_339 rfl rfl ?_
        refine v_iconst F dX11_countTransfer_340 ⟨by decide, by decide⟩ ?_
        refine v_iload F dX11_countTransfer_341 rfl ?_
        obtain ⟨d33, hc34, h⟩ := bd_some h
        refine v_callV0 (c := 11) F dX11_countTransfer_343 cv_X11_915 rfl (PB.ob hp hX (Nat.le_of_ble_eq_true rfl)) (Nat.le_of_ble_eq_true rfl) rfl (vm_X11_acted hp hc34) rfl (rOk.of rfl) ?_
        refine v_iload_n F dX11_countTransfer_346 rfl rfl ?_
        refine v_if_ne F dX11_countTransfer_347 rfl (fun hq35 => ?_) (fun hq35 => ?_)
        · rw [if_neg hq35] at h
          refine v_aload_n F dX11_countTransfer_361 rfl rfl ?_
          refine v_iload F dX11_countTransfer_362 rfl ?_
          refine v_aload_n F dX11_countTransfer_364 rfl rfl ?_
          refine gf_X11_801 F dX11_countTransfer_365 hp (v := 1621) rfl ?_
          refine v_iload F dX11_countTransfer_368 rfl ?_
          refine v_lald F dX11_countTransfer_370 (ar_X11_108 hX hp) hi31 ?_
          refine v_lload F dX11_countTransfer_371 rfl ?_
          refine v_lsub F dX11_countTransfer_373 ?_
          refine v_lload F dX11_countTransfer_374 rfl ?_
          obtain ⟨d36, x38, hc37, h⟩ := b2_some h
          refine v_callVv (c := 11) F dX11_countTransfer_376 cv_X11_969 rfl (PB.ob hp hX (Nat.le_of_ble_eq_true rfl)) (Nat.le_of_ble_eq_true rfl) rfl (vm_X11_giveSome hp hc37) rfl (rOk.of rfl) ?_
          refine v_lstore F dX11_countTransfer_379 (Nat.le_of_ble_eq_true rfl) (L' := [mA 1545, mI a1, mU, mU, mL v4, mU, mL x38, mU, mI x23, mI x28, mU, mU]) rfl ?_
          refine v_goto F dX11_countTransfer_381 rfl ?_
          cases h
          refine v_fgt (L' := [mA 1545, mI a1, mU, mU, mL v4, mU, mL x38, mU, mU, mU, mU, mU]) ⟨Or.inl rfl, Or.inl rfl, Or.inl rfl, Or.inl rfl, Or.inl rfl, Or.inl rfl, Or.inl rfl, Or.inl rfl, Or.inr rfl, Or.inr rfl, Or.inl rfl, Or.inl rfl, trivial⟩ ?_
          exact K
        · rw [if_pos hq35] at h
          refine v_aload_n F dX11_countTransfer_350 rfl rfl ?_
          refine v_iload F dX11_countTransfer_351 rfl ?_
          refine v_lload F dX11_countTransfer_353 rfl ?_
          obtain ⟨d39, hc40, h⟩ := bd_some h
          refine v_callV0 (c := 11) F dX11_countTransfer_355 cv_X11_965 rfl (PB.ob hp hX (Nat.le_of_ble_eq_true rfl)) (Nat.le_of_ble_eq_true rfl) rfl (vm_X11_givePart hp hc40) rfl (rOk.of rfl) ?_
          refine v_goto F dX11_countTransfer_358 rfl ?_
          refine v_goto F dX11_countTransfer_381 rfl ?_
          cases h
          refine v_fgt (L' := [mA 1545, mI a1, mU, mU, mL v4, mU, mL v6, mU, mU, mU, mU, mU]) ⟨Or.inl rfl, Or.inl rfl, Or.inl rfl, Or.inl rfl, Or.inl rfl, Or.inl rfl, Or.inl rfl, Or.inl rfl, Or.inr rfl, Or.inr rfl, Or.inl rfl, Or.inl rfl, trivial⟩ ?_
          exact K
      · rw [if_neg hq30] at h
        refine v_aload_n F dX11_countTransfer_268 rfl rfl ?_
        refine v_iconst F dX11_countTransfer_269 ⟨by decide, by decide⟩ ?_
        obtain ⟨d41, x43, hc42, h⟩ := b2_some h
        refine v_callVv (c := 11) F dX11_countTransfer_270 cv_X11_935 rfl (PB.ob hp hX (Nat.le_of_ble_eq_true rfl)) (Nat.le_of_ble_eq_true rfl) rfl (vm_X11_goesOut hp hc42) rfl (rOk.of rfl) ?_
        refine v_istore F dX11_countTransfer_273 (Nat.le_of_ble_eq_true rfl) (L' := [mA 1545, mI a1, mU, mU, mL v4, mU, mL v6, mU, mI x23, mI x28, mI x43, mU]) rfl ?_
        refine v_iconst F dX11_countTransfer_275 ⟨by decide, by decide⟩ ?_
        refine v_istore F dX11_countTransfer_276 (Nat.le_of_ble_eq_true rfl) (L' := [mA 1545, mI a1, mU, mU, mL v4, mU, mL v6, mU, mI x23, mI x28, mI x43, mI 0]) rfl ?_
        refine v_fgt (L' := [mA 1545, mI a1, mU, mU, mL v4, mU, mL v6, mU, mU, mU, mI x43, mI 0]) ⟨Or.inl rfl, Or.inl rfl, Or.inl rfl, Or.inl rfl, Or.inl rfl, Or.inl rfl, Or.inl rfl, Or.inl rfl, Or.inr rfl, Or.inr rfl, Or.inl rfl, Or.inl rfl, trivial⟩ ?_
        exact fX11_countTransfer_278_ok F hX hp h K
    · rw [if_neg hq27] at h
      obtain ⟨z, hu, ez⟩ := up_some h
      clear h
      subst ez
      have h := hu
      clear hu
      cases h
      cases (show _ = d' from K)
      exact v_vret F dX11_countTransfer_254
  · rw [if_neg hq18] at h
    refine v_aload_n F dX11_countTransfer_200 rfl rfl ?_
    refine gf_X11_801 F dX11_countTransfer_201 hp (v := 1621) rfl ?_
    refine v_iload F dX11_countTransfer_204 rfl ?_
    refine v_aload_n F dX11_countTransfer_206 rfl rfl ?_
    refine gf_X11_950 F dX11_countTransfer_207 hp (v := 1633) rfl ?_
    refine v_iload F dX11_countTransfer_210 rfl ?_
    obtain ⟨hi52, h⟩ := ck_some h
    refine v_zald F dX11_countTransfer_212 (ar_X11_129 hX hp) hi52 ?_
    refine v_if_eq F dX11_countTransfer_213 rfl (fun hq53 => ?_) (fun hq53 => ?_)
    · rw [if_pos hq53] at h
      refine v_aload_n F dX11_countTransfer_221 rfl rfl ?_
      refine gf_X11_801 F dX11_countTransfer_222 hp (v := 1621) rfl ?_
      refine v_iload F dX11_countTransfer_225 rfl ?_
      refine v_lald F dX11_countTransfer_227 (ar_X11_108 hX hp) hi52 ?_
      exact fX11_countTransfer_228_ok F hX hp h K
    · rw [if_neg hq53] at h
      refine v_lload F dX11_countTransfer_216 rfl ?_
      refine v_goto F dX11_countTransfer_218 rfl ?_
      exact fX11_countTransfer_228_ok F hX hp h K
theorem fX11_countTransfer_191_ok {w : Wd} {l : Launch} {G : Cx} {d m dd : Dt} {a1 v4 v6 v8 : Int} {d' : Dt} {x : ((Dt × Int) ⊕ Dt)} (F : Fx w G cX11_countTransfer RX11 12 none { frames := 3, cells := 0, slots := 0, locals := 72 }) (hX : WF dd m) (hp : PB m 1545 11) (h : fX11_countTransfer_191 d a1 v4 v6 v8 = some x) (K : (Sum.elim (fX11_countTransfer_134P w l G (QM w G WF none d' m 0 0) m a1 v4) (fun q => q = d')) x) : V w l WF G (QM w G WF none d' m 0 0) d m 0 0 191 [mA 1545, mI a1, mU, mU, mL v4, mU, mL v6, mU, mI v8, mU, mU, mU] [] := by
  unfold fX11_countTransfer_191 at h
  exact loop_ok (P := fX11_countTransfer_191P w l G (QM w G WF none d' m 0 0) m a1 v4 v6) (fun s x hx h1 h2 => fX11_countTransfer_191f_ok F hX hp hx (by
    cases x with
    | inl s' => exact h1 s' rfl
    | inr z => cases h2 z rfl; exact K)) h
theorem fX11_countTransfer_141f_ok {w : Wd} {l : Launch} {G : Cx} {m dd : Dt} {a1 v4 v6 : Int} {d' : Dt} {s : Dt × Int} {x : ((Dt × Int) ⊕ ((Dt × Int) ⊕ Dt))} (F : Fx w G cX11_countTransfer RX11 12 none { frames := 3, cells := 0, slots := 0, locals := 72 }) (hX : WF dd m) (hp : PB m 1545 11) (h : fX11_countTransfer_141f a1 v4 v6 s = some x) (K : (Sum.elim (fX11_countTransfer_141P w l G (QM w G WF none d' m 0 0) m a1 v4 v6) (Sum.elim (fX11_countTransfer_134P w l G (QM w G WF none d' m 0 0) m a1 v4) (fun q => q = d'))) x) : V w l WF G (QM w G WF none d' m 0 0) s.1 m 0 0 141 [mA 1545, mI a1, mU, mU, mL v4, mU, mL v6, mU, mI (s.2), mU, mU, mU] [] := by
  obtain ⟨d, v8⟩ := s
  unfold fX11_countTransfer_141f at h
  dsimp only at h
  refine v_iload F dX11_countTransfer_141 rfl ?_
  refine v_aload_n F dX11_countTransfer_143 rfl rfl ?_
  refine gf_X11_767 F dX11_countTransfer_144 hp ?_
  refine v_icmp_ge F dX11_countTransfer_147 rfl (fun hq17 => ?_) (fun hq17 => ?_)
  · rw [if_pos hq17] at h
    obtain ⟨z, hu, ez⟩ := up_some h
    clear h
    subst ez
    have h := hu
    clear hu
    refine v_iconst F dX11_countTransfer_188 ⟨by decide, by decide⟩ ?_
    refine v_istore F dX11_countTransfer_189 (Nat.le_of_ble_eq_true rfl) (L' := [mA 1545, mI a1, mU, mU, mL v4, mU, mL v6, mU, mI 0, mU, mU, mU]) rfl ?_
    exact fX11_countTransfer_191_ok F hX hp h K
  · rw [if_neg hq17] at h
    refine v_aload_n F dX11_countTransfer_150 rfl rfl ?_
    refine gf_X11_956 F dX11_countTransfer_151 hp (v := 1631) rfl ?_
    refine v_iload F dX11_countTransfer_154 rfl ?_
    obtain ⟨hi57, h⟩ := ck_some h
    refine v_iald F dX11_countTransfer_156 (ar_X11_127 hX hp) hi57 ?_
    refine v_if_lt F dX11_countTransfer_157 rfl (fun hq58 => ?_) (fun hq58 => ?_)
    · rw [if_pos hq58] at h
      obtain ⟨x59, ex59, h⟩ := lv_some h
      refine v_iincN F dX11_countTransfer_182 (Nat.le_of_ble_eq_true rfl) rfl ex59 (L' := [mA 1545, mI a1, mU, mU, mL v4, mU, mL v6, mU, mI x59, mU, mU, mU]) rfl ?_
      refine v_goto F dX11_countTransfer_185 rfl ?_
      cases h
      exact K
    · rw [if_neg hq58] at h
      refine v_aload_n F dX11_countTransfer_160 rfl rfl ?_
      refine gf_X11_801 F dX11_countTransfer_161 hp (v := 1621) rfl ?_
      refine v_aload_n F dX11_countTransfer_164 rfl rfl ?_
      refine gf_X11_956 F dX11_countTransfer_165 hp (v := 1631) rfl ?_
      refine v_iload F dX11_countTransfer_168 rfl ?_
      refine v_iald F dX11_countTransfer_170 (ar_X11_127 hX hp) hi57 ?_
      obtain ⟨x60, ex60, h⟩ := lv_some h
      refine v_nI ex60 ?_
      refine v_dup2_IA F dX11_countTransfer_171 ?_
      obtain ⟨hi61, h⟩ := ck_some h
      refine v_lald F dX11_countTransfer_172 (ar_X11_108 hX hp) hi61 ?_
      refine v_aload_n F dX11_countTransfer_173 rfl rfl ?_
      refine gf_X11_953 F dX11_countTransfer_174 hp (v := 1632) rfl ?_
      refine v_iload F dX11_countTransfer_177 rfl ?_
      refine v_lald F dX11_countTransfer_179 (ar_X11_128 hX hp) hi57 ?_
      refine v_ladd F dX11_countTransfer_180 ?_
      obtain ⟨d62, ed62, h⟩ := sd_some h
      refine v_last F dX11_countTransfer_181 (ar_X11_108 hX hp) hi61 ?_
      refine v_nD ed62 ?_
      obtain ⟨x63, ex63, h⟩ := lv_some h
      refine v_iincN F dX11_countTransfer_182 (Nat.le_of_ble_eq_true rfl) rfl ex63 (L' := [mA 1545, mI a1, mU, mU, mL v4, mU, mL v6, mU, mI x63, mU, mU, mU]) rfl ?_
      refine v_goto F dX11_countTransfer_185 rfl ?_
      cases h
      exact K
theorem fX11_countTransfer_141_ok {w : Wd} {l : Launch} {G : Cx} {d m dd : Dt} {a1 v4 v6 v8 : Int} {d' : Dt} {x : ((Dt × Int) ⊕ Dt)} (F : Fx w G cX11_countTransfer RX11 12 none { frames := 3, cells := 0, slots := 0, locals := 72 }) (hX : WF dd m) (hp : PB m 1545 11) (h : fX11_countTransfer_141 d a1 v4 v6 v8 = some x) (K : (Sum.elim (fX11_countTransfer_134P w l G (QM w G WF none d' m 0 0) m a1 v4) (fun q => q = d')) x) : V w l WF G (QM w G WF none d' m 0 0) d m 0 0 141 [mA 1545, mI a1, mU, mU, mL v4, mU, mL v6, mU, mI v8, mU, mU, mU] [] := by
  unfold fX11_countTransfer_141 at h
  exact loop_ok (P := fX11_countTransfer_141P w l G (QM w G WF none d' m 0 0) m a1 v4 v6) (fun s x hx h1 h2 => fX11_countTransfer_141f_ok F hX hp hx (by
    cases x with
    | inl s' => exact h1 s' rfl
    | inr z => cases h2 z rfl; exact K)) h
theorem fX11_countTransfer_134f_ok {w : Wd} {l : Launch} {G : Cx} {m dd : Dt} {a1 v4 : Int} {d' : Dt} {s : Dt × Int} {x : ((Dt × Int) ⊕ Dt)} (F : Fx w G cX11_countTransfer RX11 12 none { frames := 3, cells := 0, slots := 0, locals := 72 }) (hX : WF dd m) (hp : PB m 1545 11) (h : fX11_countTransfer_134f a1 v4 s = some x) (K : (Sum.elim (fX11_countTransfer_134P w l G (QM w G WF none d' m 0 0) m a1 v4) (fun q => q = d')) x) : V w l WF G (QM w G WF none d' m 0 0) s.1 m 0 0 134 [mA 1545, mI a1, mU, mU, mL v4, mU, mL (s.2), mU, mU, mU, mU, mU] [] := by
  obtain ⟨d, v6⟩ := s
  unfold fX11_countTransfer_134f at h
  dsimp only at h
  refine v_aload_n F dX11_countTransfer_134 rfl rfl ?_
  obtain ⟨d15, hc16, h⟩ := bd_some h
  refine v_callV0 (c := 11) F dX11_countTransfer_135 cv_X11_811 rfl (PB.ob hp hX (Nat.le_of_ble_eq_true rfl)) (Nat.le_of_ble_eq_true rfl) rfl (vm_X11_noVotes hp hc16) rfl (rOk.of rfl) ?_
  refine v_iconst F dX11_countTransfer_138 ⟨by decide, by decide⟩ ?_
  refine v_istore F dX11_countTransfer_139 (Nat.le_of_ble_eq_true rfl) (L' := [mA 1545, mI a1, mU, mU, mL v4, mU, mL v6, mU, mI 0, mU, mU, mU]) rfl ?_
  exact fX11_countTransfer_141_ok F hX hp h K
theorem fX11_countTransfer_134_ok {w : Wd} {l : Launch} {G : Cx} {d m dd : Dt} {a1 v4 v6 : Int} {d' : Dt} {x : Dt} (F : Fx w G cX11_countTransfer RX11 12 none { frames := 3, cells := 0, slots := 0, locals := 72 }) (hX : WF dd m) (hp : PB m 1545 11) (h : fX11_countTransfer_134 d a1 v4 v6 = some x) (K : (fun q => q = d') x) : V w l WF G (QM w G WF none d' m 0 0) d m 0 0 134 [mA 1545, mI a1, mU, mU, mL v4, mU, mL v6, mU, mU, mU, mU, mU] [] := by
  unfold fX11_countTransfer_134 at h
  exact loop_ok (P := fX11_countTransfer_134P w l G (QM w G WF none d' m 0 0) m a1 v4) (fun s x hx h1 h2 => fX11_countTransfer_134f_ok F hX hp hx (by
    cases x with
    | inl s' => exact h1 s' rfl
    | inr z => cases h2 z rfl; exact K)) h
theorem fX11_countTransfer_98f_ok {w : Wd} {l : Launch} {G : Cx} {m dd : Dt} {a1 v2 v4 v6 : Int} {d' : Dt} {s : Dt × Int} {x : ((Dt × Int) ⊕ Dt)} (F : Fx w G cX11_countTransfer RX11 12 none { frames := 3, cells := 0, slots := 0, locals := 72 }) (hX : WF dd m) (hp : PB m 1545 11) (h : fX11_countTransfer_98f a1 v2 v4 v6 s = some x) (K : (Sum.elim (fX11_countTransfer_98P w l G (QM w G WF none d' m 0 0) m a1 v2 v4 v6) (fun q => q = d')) x) : V w l WF G (QM w G WF none d' m 0 0) s.1 m 0 0 98 [mA 1545, mI a1, mL v2, mU, mL v4, mU, mL v6, mU, mI (s.2), mU, mU, mU] [] := by
  obtain ⟨d, v8⟩ := s
  unfold fX11_countTransfer_98f at h
  dsimp only at h
  refine v_iload F dX11_countTransfer_98 rfl ?_
  refine v_aload_n F dX11_countTransfer_100 rfl rfl ?_
  refine gf_X11_767 F dX11_countTransfer_101 hp ?_
  refine v_icmp_ge F dX11_countTransfer_104 rfl (fun hq14 => ?_) (fun hq14 => ?_)
  · rw [if_pos hq14] at h
    obtain ⟨z, hu, ez⟩ := up_some h
    clear h
    subst ez
    have h := hu
    clear hu
    refine v_fgt (L' := [mA 1545, mI a1, mU, mU, mL v4, mU, mL v6, mU, mU, mU, mU, mU]) ⟨Or.inl rfl, Or.inl rfl, Or.inr rfl, Or.inl rfl, Or.inl rfl, Or.inl rfl, Or.inl rfl, Or.inl rfl, Or.inr rfl, Or.inl rfl, Or.inl rfl, Or.inl rfl, trivial⟩ ?_
    exact fX11_countTransfer_134_ok F hX hp h K
  · rw [if_neg hq14] at h
    refine v_aload_n F dX11_countTransfer_107 rfl rfl ?_
    refine gf_X11_953 F dX11_countTransfer_108 hp (v := 1632) rfl ?_
    refine v_iload F dX11_countTransfer_111 rfl ?_
    refine v_lload_n F dX11_countTransfer_113 rfl rfl ?_
    obtain ⟨hi64, h⟩ := ck_some h
    obtain ⟨d65, ed65, h⟩ := sd_some h
    refine v_last F dX11_countTransfer_114 (ar_X11_128 hX hp) hi64 ?_
    refine v_nD ed65 ?_
    refine v_aload_n F dX11_countTransfer_115 rfl rfl ?_
    refine gf_X11_956 F dX11_countTransfer_116 hp (v := 1631) rfl ?_
    refine v_iload F dX11_countTransfer_119 rfl ?_
    refine v_aload_n F dX11_countTransfer_121 rfl rfl ?_
    refine v_iload F dX11_countTransfer_122 rfl ?_
    obtain ⟨x66, hc67, h⟩ := b1_some h
    refine v_callVv (c := 11) F dX11_countTransfer_124 cv_X11_932 rfl (PB.ob hp hX (Nat.le_of_ble_eq_true rfl)) (Nat.le_of_ble_eq_true rfl) rfl (vm_X11_firstIn hp hc67) rfl (rOk.of rfl) ?_
    obtain ⟨d68, ed68, h⟩ := sd_some h
    refine v_iast F dX11_countTransfer_127 (ar_X11_127 hX hp) hi64 ?_
    refine v_nD ed68 ?_
    obtain ⟨x69, ex69, h⟩ := lv_some h
    refine v_iincN F dX11_countTransfer_128 (Nat.le_of_ble_eq_true rfl) rfl ex69 (L' := [mA 1545, mI a1, mL v2, mU, mL v4, mU, mL v6, mU, mI x69, mU, mU, mU]) rfl ?_
    refine v_goto F dX11_countTransfer_131 rfl ?_
    cases h
    exact K
theorem fX11_countTransfer_98_ok {w : Wd} {l : Launch} {G : Cx} {d m dd : Dt} {a1 v2 v4 v6 v8 : Int} {d' : Dt} {x : Dt} (F : Fx w G cX11_countTransfer RX11 12 none { frames := 3, cells := 0, slots := 0, locals := 72 }) (hX : WF dd m) (hp : PB m 1545 11) (h : fX11_countTransfer_98 d a1 v2 v4 v6 v8 = some x) (K : (fun q => q = d') x) : V w l WF G (QM w G WF none d' m 0 0) d m 0 0 98 [mA 1545, mI a1, mL v2, mU, mL v4, mU, mL v6, mU, mI v8, mU, mU, mU] [] := by
  unfold fX11_countTransfer_98 at h
  exact loop_ok (P := fX11_countTransfer_98P w l G (QM w G WF none d' m 0 0) m a1 v2 v4 v6) (fun s x hx h1 h2 => fX11_countTransfer_98f_ok F hX hp hx (by
    cases x with
    | inl s' => exact h1 s' rfl
    | inr z => cases h2 z rfl; exact K)) h
theorem fX11_countTransfer_72f_ok {w : Wd} {l : Launch} {G : Cx} {m dd : Dt} {a1 v2 v4 v6 : Int} {d' : Dt} {s : Dt × Int} {x : ((Dt × Int) ⊕ Dt)} (F : Fx w G cX11_countTransfer RX11 12 none { frames := 3, cells := 0, slots := 0, locals := 72 }) (hX : WF dd m) (hp : PB m 1545 11) (h : fX11_countTransfer_72f a1 v2 v4 v6 s = some x) (K : (Sum.elim (fX11_countTransfer_72P w l G (QM w G WF none d' m 0 0) m a1 v2 v4 v6) (fun q => q = d')) x) : V w l WF G (QM w G WF none d' m 0 0) s.1 m 0 0 72 [mA 1545, mI a1, mL v2, mU, mL v4, mU, mL v6, mU, mI (s.2), mU, mU, mU] [] := by
  obtain ⟨d, v8⟩ := s
  unfold fX11_countTransfer_72f at h
  dsimp only at h
  refine v_iload F dX11_countTransfer_72 rfl ?_
  refine v_aload_n F dX11_countTransfer_74 rfl rfl ?_
  refine gf_X11_755 F dX11_countTransfer_75 hp ?_
  refine v_icmp_ge F dX11_countTransfer_78 rfl (fun hq13 => ?_) (fun hq13 => ?_)
  · rw [if_pos hq13] at h
    obtain ⟨z, hu, ez⟩ := up_some h
    clear h
    subst ez
    have h := hu
    clear hu
    refine v_iconst F dX11_countTransfer_95 ⟨by decide, by decide⟩ ?_
    refine v_istore F dX11_countTransfer_96 (Nat.le_of_ble_eq_true rfl) (L' := [mA 1545, mI a1, mL v2, mU, mL v4, mU, mL v6, mU, mI 0, mU, mU, mU]) rfl ?_
    exact fX11_countTransfer_98_ok F hX hp h K
  · rw [if_neg hq13] at h
    refine v_aload_n F dX11_countTransfer_81 rfl rfl ?_
    refine gf_X11_950 F dX11_countTransfer_82 hp (v := 1633) rfl ?_
    refine v_iload F dX11_countTransfer_85 rfl ?_
    refine v_iconst F dX11_countTransfer_87 ⟨by decide, by decide⟩ ?_
    obtain ⟨hi70, h⟩ := ck_some h
    obtain ⟨d71, ed71, h⟩ := sd_some h
    refine v_zast F dX11_countTransfer_88 (ar_X11_129 hX hp) hi70 ?_
    refine v_nD ed71 ?_
    obtain ⟨x72, ex72, h⟩ := lv_some h
    refine v_iincN F dX11_countTransfer_89 (Nat.le_of_ble_eq_true rfl) rfl ex72 (L' := [mA 1545, mI a1, mL v2, mU, mL v4, mU, mL v6, mU, mI x72, mU, mU, mU]) rfl ?_
    refine v_goto F dX11_countTransfer_92 rfl ?_
    cases h
    exact K
theorem fX11_countTransfer_72_ok {w : Wd} {l : Launch} {G : Cx} {d m dd : Dt} {a1 v2 v4 v6 v8 : Int} {d' : Dt} {x : Dt} (F : Fx w G cX11_countTransfer RX11 12 none { frames := 3, cells := 0, slots := 0, locals := 72 }) (hX : WF dd m) (hp : PB m 1545 11) (h : fX11_countTransfer_72 d a1 v2 v4 v6 v8 = some x) (K : (fun q => q = d') x) : V w l WF G (QM w G WF none d' m 0 0) d m 0 0 72 [mA 1545, mI a1, mL v2, mU, mL v4, mU, mL v6, mU, mI v8, mU, mU, mU] [] := by
  unfold fX11_countTransfer_72 at h
  exact loop_ok (P := fX11_countTransfer_72P w l G (QM w G WF none d' m 0 0) m a1 v2 v4 v6) (fun s x hx h1 h2 => fX11_countTransfer_72f_ok F hX hp hx (by
    cases x with
    | inl s' => exact h1 s' rfl
    | inr z => cases h2 z rfl; exact K)) h
theorem fX11_countTransfer_50_ok {w : Wd} {l : Launch} {G : Cx} {d m dd : Dt} {a1 v2 s0 s1 : Int} {d' : Dt} {x : Dt} (F : Fx w G cX11_countTransfer RX11 12 none { frames := 3, cells := 0, slots := 0, locals := 72 }) (hX : WF dd m) (hp : PB m 1545 11) (h : fX11_countTransfer_50 d a1 v2 s0 s1 = some x) (K : (fun q => q = d') x) : V w l WF G (QM w G WF none d' m 0 0) d m 0 0 50 [mA 1545, mI a1, mL v2, mU, mU, mU, mU, mU, mU, mU, mU, mU] [mI s1, mL s0] := by
  unfold fX11_countTransfer_50 at h
  refine v_i2l F dX11_countTransfer_50 ?_
  refine v_lmul F dX11_countTransfer_51 ?_
  obtain ⟨x7, ex7, h⟩ := lv_some h
  refine v_nL ex7 ?_
  refine v_lstore F dX11_countTransfer_52 (Nat.le_of_ble_eq_true rfl) (L' := [mA 1545, mI a1, mL v2, mU, mL x7, mU, mU, mU, mU, mU, mU, mU]) rfl ?_
  refine v_aload_n F dX11_countTransfer_54 rfl rfl ?_
  refine gf_X11_749 F dX11_countTransfer_55 hp ?_
  refine v_i2l F dX11_countTransfer_58 ?_
  obtain ⟨x8, ex8, h⟩ := lv_some h
  refine v_nL ex8 ?_
  refine v_lstore F dX11_countTransfer_59 (Nat.le_of_ble_eq_true rfl) (L' := [mA 1545, mI a1, mL v2, mU, mL x7, mU, mL x8, mU, mU, mU, mU, mU]) rfl ?_
  refine v_aload_n F dX11_countTransfer_61 rfl rfl ?_
  obtain ⟨d9, hc10, h⟩ := bd_some h
  refine v_callV0 (c := 11) F dX11_countTransfer_62 cv_X11_929 rfl (PB.ob hp hX (Nat.le_of_ble_eq_true rfl)) (Nat.le_of_ble_eq_true rfl) rfl (vm_X11_allIn hp hc10) rfl (rOk.of rfl) ?_
  refine v_aload_n F dX11_countTransfer_65 rfl rfl ?_
  obtain ⟨d11, hc12, h⟩ := bd_some h
  refine v_callV0 (c := 11) F dX11_countTransfer_66 cv_X11_947 rfl (PB.ob hp hX (Nat.le_of_ble_eq_true rfl)) (Nat.le_of_ble_eq_true rfl) rfl (vm_X11_sortBallots hp hc12) rfl (rOk.of rfl) ?_
  refine v_iconst F dX11_countTransfer_69 ⟨by decide, by decide⟩ ?_
  refine v_istore F dX11_countTransfer_70 (Nat.le_of_ble_eq_true rfl) (L' := [mA 1545, mI a1, mL v2, mU, mL x7, mU, mL x8, mU, mI 0, mU, mU, mU]) rfl ?_
  exact fX11_countTransfer_72_ok F hX hp h K
theorem fX11_countTransfer_11_ok {w : Wd} {l : Launch} {G : Cx} {d m dd : Dt} {a1 s0 : Int} {d' : Dt} {x : Dt} (F : Fx w G cX11_countTransfer RX11 12 none { frames := 3, cells := 0, slots := 0, locals := 72 }) (hX : WF dd m) (hp : PB m 1545 11) (h : fX11_countTransfer_11 d a1 s0 = some x) (K : (fun q => q = d') x) : V w l WF G (QM w G WF none d' m 0 0) d m 0 0 11 [mA 1545, mI a1, mU, mU, mU, mU, mU, mU, mU, mU, mU, mU] [mL s0] := by
  unfold fX11_countTransfer_11 at h
  refine v_lstore_n F dX11_countTransfer_11 rfl (Nat.le_of_ble_eq_true rfl) (L' := [mA 1545, mI a1, mL s0, mU, mU, mU, mU, mU, mU, mU, mU, mU]) rfl ?_
  refine v_lload_n F dX11_countTransfer_12 rfl rfl ?_
  refine v_aload_n F dX11_countTransfer_13 rfl rfl ?_
  refine v_aload_n F dX11_countTransfer_14 rfl rfl ?_
  refine gf_X11_749 F dX11_countTransfer_15 hp ?_
  refine v_iconst F dX11_countTransfer_18 ⟨by decide, by decide⟩ ?_
  obtain ⟨x2, hc3, h⟩ := b1_some h
  refine v_callVv (c := 11) F dX11_countTransfer_19 cv_X11_485 rfl (PB.ob hp hX (Nat.le_of_ble_eq_true rfl)) (Nat.le_of_ble_eq_true rfl) rfl (vm_X11_contestIs hp hc3) rfl (rOk.of rfl) ?_
  refine v_if_ne F dX11_countTransfer_22 rfl (fun hq4 => ?_) (fun hq4 => ?_)
  · rw [if_neg hq4] at h
    refine v_aload_n F dX11_countTransfer_37 rfl rfl ?_
    refine gf_X11_767 F dX11_countTransfer_38 hp ?_
    refine v_aload_n F dX11_countTransfer_41 rfl rfl ?_
    refine gf_X11_758 F dX11_countTransfer_42 hp ?_
    refine v_iconst F dX11_countTransfer_45 ⟨by decide, by decide⟩ ?_
    refine v_iadd F dX11_countTransfer_46 ?_
    obtain ⟨x5, ex5, h⟩ := lv_some h
    refine v_nI ex5 ?_
    obtain ⟨hz6, h⟩ := ck_some h
    refine v_idiv F dX11_countTransfer_47 hz6 ?_
    refine v_iconst F dX11_countTransfer_48 ⟨by decide, by decide⟩ ?_
    refine v_iadd F dX11_countTransfer_49 ?_
    exact fX11_countTransfer_50_ok F hX hp h K
  · rw [if_pos hq4] at h
    refine v_aload_n F dX11_countTransfer_25 rfl rfl ?_
    refine gf_X11_767 F dX11_countTransfer_26 hp ?_
    refine v_aload_n F dX11_countTransfer_29 rfl rfl ?_
    refine gf_X11_758 F dX11_countTransfer_30 hp ?_
    obtain ⟨x73, ex73, h⟩ := lv_some h
    refine v_nI ex73 ?_
    obtain ⟨hz74, h⟩ := ck_some h
    refine v_idiv F dX11_countTransfer_33 hz74 ?_
    refine v_goto F dX11_countTransfer_34 rfl ?_
    exact fX11_countTransfer_50_ok F hX hp h K
theorem vm_X11_countTransfer {w : Wd} {l : Launch} {d m : Dt} {a1 : Int} {d' : Dt} (hp : PB m 1545 11) (h : fX11_countTransfer d a1 = some d') : VM w l WF yX11_countTransfer cX11_countTransfer 12 none 3 72 0 0 d m [mA 1545, mI a1] none d' m := by
  obtain ⟨x, h, K⟩ : ∃ x, fX11_countTransfer d a1 = some x ∧ x = d' := ⟨_, h, rfl⟩
  refine VM.of (L := [mA 1545, mI a1, mU, mU, mU, mU, mU, mU, mU, mU, mU, mU]) (by decide +kernel) rfl (Nat.le_of_ble_eq_true rfl) fun G F _ => v_fact fun _ hX _ _ => ?_
  unfold fX11_countTransfer at h
  refine v_iload_n F dX11_countTransfer_0 rfl rfl ?_
  refine v_if_eq F dX11_countTransfer_1 rfl (fun hq1 => ?_) (fun hq1 => ?_)
  · rw [if_pos hq1] at h
    refine v_ldc2 (n := 1000000) F dX11_countTransfer_8 q3195 rfl ⟨by decide, by decide⟩ ?_
    exact fX11_countTransfer_11_ok F hX hp h K
  · rw [if_neg hq1] at h
    refine v_lconst1 F dX11_countTransfer_4 ?_
    refine v_goto F dX11_countTransfer_5 rfl ?_
    exact fX11_countTransfer_11_ok F hX hp h K
theorem vm_X11_margin {w : Wd} {l : Launch} {d m : Dt} {a1 a2 : Int} {r : Int} (hp : PB m 1545 11) (h : fX11_margin d a1 a2 = some r) : VM w l WF yX11_margin cX11_margin 3 (some .int) 0 0 0 0 d m [mA 1545, mI a1, mI a2] (some (mI r)) d m := by
  obtain ⟨x, h, K⟩ : ∃ x, fX11_margin d a1 a2 = some x ∧ x = r := ⟨_, h, rfl⟩
  refine VM.of (L := [mA 1545, mI a1, mI a2]) (by decide +kernel) rfl (Nat.le_of_ble_eq_true rfl) fun G F _ => v_fact fun _ hX _ _ => ?_
  unfold fX11_margin at h
  refine v_aload_n F dX11_margin_0 rfl rfl ?_
  refine gf_X11_998 F dX11_margin_1 hp (v := 1636) rfl ?_
  refine v_bipush F dX11_margin_4 rfl ⟨by decide, by decide⟩ ?_
  refine v_iload_n F dX11_margin_6 rfl rfl ?_
  refine v_imul F dX11_margin_7 ?_
  refine v_iload_n F dX11_margin_8 rfl rfl ?_
  refine v_iadd F dX11_margin_9 ?_
  obtain ⟨x1, ex1, h⟩ := lv_some h
  refine v_nI ex1 ?_
  obtain ⟨hi2, h⟩ := ck_some h
  refine v_iald F dX11_margin_10 (ar_X11_132 hX hp) hi2 ?_
  refine v_aload_n F dX11_margin_11 rfl rfl ?_
  refine gf_X11_998 F dX11_margin_12 hp (v := 1636) rfl ?_
  refine v_bipush F dX11_margin_15 rfl ⟨by decide, by decide⟩ ?_
  refine v_iload_n F dX11_margin_17 rfl rfl ?_
  refine v_imul F dX11_margin_18 ?_
  refine v_iload_n F dX11_margin_19 rfl rfl ?_
  refine v_iadd F dX11_margin_20 ?_
  obtain ⟨x3, ex3, h⟩ := lv_some h
  refine v_nI ex3 ?_
  obtain ⟨hi4, h⟩ := ck_some h
  refine v_iald F dX11_margin_21 (ar_X11_132 hX hp) hi4 ?_
  refine v_isub F dX11_margin_22 ?_
  cases h
  cases (show _ = r from K)
  exact v_iret F dX11_margin_23
theorem vm_X11_beats {w : Wd} {l : Launch} {d m : Dt} {a1 a2 : Int} {r : Int} (hp : PB m 1545 11) (h : fX11_beats d a1 a2 = some r) : VM w l WF yX11_beats cX11_beats 3 (some .boolean) 0 0 0 0 d m [mA 1545, mI a1, mI a2] (some (mI r)) d m := by
  obtain ⟨x, h, K⟩ : ∃ x, fX11_beats d a1 a2 = some x ∧ x = r := ⟨_, h, rfl⟩
  refine VM.of (L := [mA 1545, mI a1, mI a2]) (by decide +kernel) rfl (Nat.le_of_ble_eq_true rfl) fun G F _ => v_fact fun _ hX _ _ => ?_
  unfold fX11_beats at h
  refine v_aload_n F dX11_beats_0 rfl rfl ?_
  refine gf_X11_998 F dX11_beats_1 hp (v := 1636) rfl ?_
  refine v_bipush F dX11_beats_4 rfl ⟨by decide, by decide⟩ ?_
  refine v_iload_n F dX11_beats_6 rfl rfl ?_
  refine v_imul F dX11_beats_7 ?_
  refine v_iload_n F dX11_beats_8 rfl rfl ?_
  refine v_iadd F dX11_beats_9 ?_
  obtain ⟨x1, ex1, h⟩ := lv_some h
  refine v_nI ex1 ?_
  obtain ⟨hi2, h⟩ := ck_some h
  refine v_iald F dX11_beats_10 (ar_X11_132 hX hp) hi2 ?_
  refine v_aload_n F dX11_beats_11 rfl rfl ?_
  refine gf_X11_998 F dX11_beats_12 hp (v := 1636) rfl ?_
  refine v_bipush F dX11_beats_15 rfl ⟨by decide, by decide⟩ ?_
  refine v_iload_n F dX11_beats_17 rfl rfl ?_
  refine v_imul F dX11_beats_18 ?_
  refine v_iload_n F dX11_beats_19 rfl rfl ?_
  refine v_iadd F dX11_beats_20 ?_
  obtain ⟨x3, ex3, h⟩ := lv_some h
  refine v_nI ex3 ?_
  obtain ⟨hi4, h⟩ := ck_some h
  refine v_iald F dX11_beats_21 (ar_X11_132 hX hp) hi4 ?_
  refine v_icmp_le F dX11_beats_22 rfl (fun hq5 => ?_) (fun hq5 => ?_)
  · rw [if_pos hq5] at h
    refine v_iconst F dX11_beats_29 ⟨by decide, by decide⟩ ?_
    cases h
    cases (show _ = r from K)
    exact v_zret F (Or.inl rfl) dX11_beats_30
  · rw [if_neg hq5] at h
    refine v_iconst F dX11_beats_25 ⟨by decide, by decide⟩ ?_
    refine v_goto F dX11_beats_26 rfl ?_
    cases h
    cases (show _ = r from K)
    exact v_zret F (Or.inr rfl) dX11_beats_30
theorem vm_X11_isDuelAhead {w : Wd} {l : Launch} {d m : Dt} {a1 a2 : Int} {r : Int} (hp : PB m 1545 11) (h : fX11_isDuelAhead d a1 a2 = some r) : VM w l WF yX11_isDuelAhead cX11_isDuelAhead 7 (some .boolean) 1 22 0 0 d m [mA 1545, mI a1, mI a2] (some (mI r)) d m := by
  obtain ⟨x, h, K⟩ : ∃ x, fX11_isDuelAhead d a1 a2 = some x ∧ x = r := ⟨_, h, rfl⟩
  refine VM.of (L := [mA 1545, mI a1, mI a2, mU, mU, mU, mU]) (by decide +kernel) rfl (Nat.le_of_ble_eq_true rfl) fun G F _ => v_fact fun _ hX _ _ => ?_
  unfold fX11_isDuelAhead at h
  refine v_iload_n F dX11_isDuelAhead_0 rfl rfl ?_
  refine v_bipush F dX11_isDuelAhead_1 rfl ⟨by decide, by decide⟩ ?_
  refine v_idiv F dX11_isDuelAhead_3 (by decide) ?_
  obtain ⟨x1, ex1, h⟩ := lv_some h
  refine v_nI ex1 ?_
  refine v_istore_n F dX11_isDuelAhead_4 rfl (Nat.le_of_ble_eq_true rfl) (L' := [mA 1545, mI a1, mI a2, mI x1, mU, mU, mU]) rfl ?_
  refine v_iload_n F dX11_isDuelAhead_5 rfl rfl ?_
  refine v_bipush F dX11_isDuelAhead_6 rfl ⟨by decide, by decide⟩ ?_
  refine v_irem F dX11_isDuelAhead_8 (by decide) ?_
  obtain ⟨x2, ex2, h⟩ := lv_some h
  refine v_nI ex2 ?_
  refine v_istore F dX11_isDuelAhead_9 (Nat.le_of_ble_eq_true rfl) (L' := [mA 1545, mI a1, mI a2, mI x1, mI x2, mU, mU]) rfl ?_
  refine v_iload_n F dX11_isDuelAhead_11 rfl rfl ?_
  refine v_bipush F dX11_isDuelAhead_12 rfl ⟨by decide, by decide⟩ ?_
  refine v_idiv F dX11_isDuelAhead_14 (by decide) ?_
  obtain ⟨x3, ex3, h⟩ := lv_some h
  refine v_nI ex3 ?_
  refine v_istore F dX11_isDuelAhead_15 (Nat.le_of_ble_eq_true rfl) (L' := [mA 1545, mI a1, mI a2, mI x1, mI x2, mI x3, mU]) rfl ?_
  refine v_iload_n F dX11_isDuelAhead_17 rfl rfl ?_
  refine v_bipush F dX11_isDuelAhead_18 rfl ⟨by decide, by decide⟩ ?_
  refine v_irem F dX11_isDuelAhead_20 (by decide) ?_
  obtain ⟨x4, ex4, h⟩ := lv_some h
  refine v_nI ex4 ?_
  refine v_istore F dX11_isDuelAhead_21 (Nat.le_of_ble_eq_true rfl) (L' := [mA 1545, mI a1, mI a2, mI x1, mI x2, mI x3, mI x4]) rfl ?_
  refine v_aload_n F dX11_isDuelAhead_23 rfl rfl ?_
  refine v_iload_n F dX11_isDuelAhead_24 rfl rfl ?_
  refine v_iload F dX11_isDuelAhead_25 rfl ?_
  obtain ⟨x5, hc6, h⟩ := b1_some h
  refine v_callVv (c := 11) F dX11_isDuelAhead_27 cv_X11_1001 rfl (PB.ob hp hX (Nat.le_of_ble_eq_true rfl)) (Nat.le_of_ble_eq_true rfl) rfl (vm_X11_margin hp hc6) rfl (rOk.of rfl) ?_
  refine v_aload_n F dX11_isDuelAhead_30 rfl rfl ?_
  refine v_iload F dX11_isDuelAhead_31 rfl ?_
  refine v_iload F dX11_isDuelAhead_33 rfl ?_
  obtain ⟨x7, hc8, h⟩ := b1_some h
  refine v_callVv (c := 11) F dX11_isDuelAhead_35 cv_X11_1001 rfl (PB.ob hp hX (Nat.le_of_ble_eq_true rfl)) (Nat.le_of_ble_eq_true rfl) rfl (vm_X11_margin hp hc8) rfl (rOk.of rfl) ?_
  refine v_icmp_eq F dX11_isDuelAhead_38 rfl (fun hq9 => ?_) (fun hq9 => ?_)
  · rw [if_pos hq9] at h
    refine v_aload_n F dX11_isDuelAhead_65 rfl rfl ?_
    refine gf_X11_998 F dX11_isDuelAhead_66 hp (v := 1636) rfl ?_
    refine v_iload_n F dX11_isDuelAhead_69 rfl rfl ?_
    obtain ⟨hi10, h⟩ := ck_some h
    refine v_iald F dX11_isDuelAhead_70 (ar_X11_132 hX hp) hi10 ?_
    refine v_aload_n F dX11_isDuelAhead_71 rfl rfl ?_
    refine gf_X11_998 F dX11_isDuelAhead_72 hp (v := 1636) rfl ?_
    refine v_iload_n F dX11_isDuelAhead_75 rfl rfl ?_
    obtain ⟨hi11, h⟩ := ck_some h
    refine v_iald F dX11_isDuelAhead_76 (ar_X11_132 hX hp) hi11 ?_
    refine v_icmp_eq F dX11_isDuelAhead_77 rfl (fun hq12 => ?_) (fun hq12 => ?_)
    · rw [if_pos hq12] at h
      refine v_iload_n F dX11_isDuelAhead_101 rfl rfl ?_
      refine v_iload F dX11_isDuelAhead_102 rfl ?_
      refine v_icmp_eq F dX11_isDuelAhead_104 rfl (fun hq13 => ?_) (fun hq13 => ?_)
      · rw [if_pos hq13] at h
        refine v_aload_n F dX11_isDuelAhead_129 rfl rfl ?_
        refine v_iload F dX11_isDuelAhead_130 rfl ?_
        obtain ⟨x14, hc15, h⟩ := b1_some h
        refine v_callVv (c := 11) F dX11_isDuelAhead_132 cv_X11_808 rfl (PB.ob hp hX (Nat.le_of_ble_eq_true rfl)) (Nat.le_of_ble_eq_true rfl) rfl (vm_X11_lot hp hc15) rfl (rOk.of rfl) ?_
        refine v_aload_n F dX11_isDuelAhead_135 rfl rfl ?_
        refine v_iload F dX11_isDuelAhead_136 rfl ?_
        obtain ⟨x16, hc17, h⟩ := b1_some h
        refine v_callVv (c := 11) F dX11_isDuelAhead_138 cv_X11_808 rfl (PB.ob hp hX (Nat.le_of_ble_eq_true rfl)) (Nat.le_of_ble_eq_true rfl) rfl (vm_X11_lot hp hc17) rfl (rOk.of rfl) ?_
        refine v_icmp_ge F dX11_isDuelAhead_141 rfl (fun hq18 => ?_) (fun hq18 => ?_)
        · rw [if_pos hq18] at h
          refine v_iconst F dX11_isDuelAhead_148 ⟨by decide, by decide⟩ ?_
          cases h
          cases (show _ = r from K)
          exact v_zret F (Or.inl rfl) dX11_isDuelAhead_149
        · rw [if_neg hq18] at h
          refine v_iconst F dX11_isDuelAhead_144 ⟨by decide, by decide⟩ ?_
          refine v_goto F dX11_isDuelAhead_145 rfl ?_
          cases h
          cases (show _ = r from K)
          exact v_zret F (Or.inr rfl) dX11_isDuelAhead_149
      · rw [if_neg hq13] at h
        refine v_aload_n F dX11_isDuelAhead_107 rfl rfl ?_
        refine v_iload_n F dX11_isDuelAhead_108 rfl rfl ?_
        obtain ⟨x19, hc20, h⟩ := b1_some h
        refine v_callVv (c := 11) F dX11_isDuelAhead_109 cv_X11_808 rfl (PB.ob hp hX (Nat.le_of_ble_eq_true rfl)) (Nat.le_of_ble_eq_true rfl) rfl (vm_X11_lot hp hc20) rfl (rOk.of rfl) ?_
        refine v_aload_n F dX11_isDuelAhead_112 rfl rfl ?_
        refine v_iload F dX11_isDuelAhead_113 rfl ?_
        obtain ⟨x21, hc22, h⟩ := b1_some h
        refine v_callVv (c := 11) F dX11_isDuelAhead_115 cv_X11_808 rfl (PB.ob hp hX (Nat.le_of_ble_eq_true rfl)) (Nat.le_of_ble_eq_true rfl) rfl (vm_X11_lot hp hc22) rfl (rOk.of rfl) ?_
        refine v_icmp_ge F dX11_isDuelAhead_118 rfl (fun hq23 => ?_) (fun hq23 => ?_)
        · rw [if_pos hq23] at h
          refine v_iconst F dX11_isDuelAhead_125 ⟨by decide, by decide⟩ ?_
          refine v_goto F dX11_isDuelAhead_126 rfl ?_
          cases h
          cases (show _ = r from K)
          exact v_zret F (Or.inl rfl) dX11_isDuelAhead_149
        · rw [if_neg hq23] at h
          refine v_iconst F dX11_isDuelAhead_121 ⟨by decide, by decide⟩ ?_
          refine v_goto F dX11_isDuelAhead_122 rfl ?_
          cases h
          cases (show _ = r from K)
          exact v_zret F (Or.inr rfl) dX11_isDuelAhead_149
    · rw [if_neg hq12] at h
      refine v_aload_n F dX11_isDuelAhead_80 rfl rfl ?_
      refine gf_X11_998 F dX11_isDuelAhead_81 hp (v := 1636) rfl ?_
      refine v_iload_n F dX11_isDuelAhead_84 rfl rfl ?_
      refine v_iald F dX11_isDuelAhead_85 (ar_X11_132 hX hp) hi10 ?_
      refine v_aload_n F dX11_isDuelAhead_86 rfl rfl ?_
      refine gf_X11_998 F dX11_isDuelAhead_87 hp (v := 1636) rfl ?_
      refine v_iload_n F dX11_isDuelAhead_90 rfl rfl ?_
      refine v_iald F dX11_isDuelAhead_91 (ar_X11_132 hX hp) hi11 ?_
      refine v_icmp_le F dX11_isDuelAhead_92 rfl (fun hq24 => ?_) (fun hq24 => ?_)
      · rw [if_pos hq24] at h
        refine v_iconst F dX11_isDuelAhead_99 ⟨by decide, by decide⟩ ?_
        cases h
        cases (show _ = r from K)
        exact v_zret F (Or.inl rfl) dX11_isDuelAhead_100
      · rw [if_neg hq24] at h
        refine v_iconst F dX11_isDuelAhead_95 ⟨by decide, by decide⟩ ?_
        refine v_goto F dX11_isDuelAhead_96 rfl ?_
        cases h
        cases (show _ = r from K)
        exact v_zret F (Or.inr rfl) dX11_isDuelAhead_100
  · rw [if_neg hq9] at h
    refine v_aload_n F dX11_isDuelAhead_41 rfl rfl ?_
    refine v_iload_n F dX11_isDuelAhead_42 rfl rfl ?_
    refine v_iload F dX11_isDuelAhead_43 rfl ?_
    obtain ⟨x25, hc26, h⟩ := b1_some h
    refine v_callVv (c := 11) F dX11_isDuelAhead_45 cv_X11_1001 rfl (PB.ob hp hX (Nat.le_of_ble_eq_true rfl)) (Nat.le_of_ble_eq_true rfl) rfl (vm_X11_margin hp hc26) rfl (rOk.of rfl) ?_
    refine v_aload_n F dX11_isDuelAhead_48 rfl rfl ?_
    refine v_iload F dX11_isDuelAhead_49 rfl ?_
    refine v_iload F dX11_isDuelAhead_51 rfl ?_
    obtain ⟨x27, hc28, h⟩ := b1_some h
    refine v_callVv (c := 11) F dX11_isDuelAhead_53 cv_X11_1001 rfl (PB.ob hp hX (Nat.le_of_ble_eq_true rfl)) (Nat.le_of_ble_eq_true rfl) rfl (vm_X11_margin hp hc28) rfl (rOk.of rfl) ?_
    refine v_icmp_le F dX11_isDuelAhead_56 rfl (fun hq29 => ?_) (fun hq29 => ?_)
    · rw [if_pos hq29] at h
      refine v_iconst F dX11_isDuelAhead_63 ⟨by decide, by decide⟩ ?_
      cases h
      cases (show _ = r from K)
      exact v_zret F (Or.inl rfl) dX11_isDuelAhead_64
    · rw [if_neg hq29] at h
      refine v_iconst F dX11_isDuelAhead_59 ⟨by decide, by decide⟩ ?_
      refine v_goto F dX11_isDuelAhead_60 rfl ?_
      cases h
      cases (show _ = r from K)
      exact v_zret F (Or.inr rfl) dX11_isDuelAhead_64
def fX11_keepPairs_4P (w : Wd) (l : Launch) (G : Cx) (Q : State → Prop) (m : Dt) (v1 : Int) (s : Dt × Int) : Prop := V w l WF G Q s.1 m 0 0 4 [mA 1545, mI v1, mI (s.2), mU, mU, mU, mU] []
def fX11_keepPairs_43P (w : Wd) (l : Launch) (G : Cx) (Q : State → Prop) (m : Dt) (s : Dt × Int × Int) : Prop := V w l WF G Q s.1 m 0 0 43 [mA 1545, mI (s.2.1), mI (s.2.2), mU, mU, mU, mU] []
def fX11_keepPairs_173P (w : Wd) (l : Launch) (G : Cx) (Q : State → Prop) (m : Dt) (v1 : Int) (s : Dt × Int) : Prop := V w l WF G Q s.1 m 0 0 173 [mA 1545, mI v1, mI (s.2), mU, mU, mU, mU] []
def fX11_keepPairs_232P (w : Wd) (l : Launch) (G : Cx) (Q : State → Prop) (m : Dt) (v1 v2 v3 v4 : Int) (s : Dt × Int) : Prop := V w l WF G Q s.1 m 0 0 232 [mA 1545, mI v1, mI v2, mI v3, mI v4, mI (s.2), mU] []
def fX11_keepPairs_244P (w : Wd) (l : Launch) (G : Cx) (Q : State → Prop) (m : Dt) (v1 v2 v3 v4 v5 : Int) (s : Dt × Int) : Prop := V w l WF G Q s.1 m 0 0 244 [mA 1545, mI v1, mI v2, mI v3, mI v4, mI v5, mI (s.2)] []
theorem fX11_keepPairs_303_ok {w : Wd} {l : Launch} {G : Cx} {d m dd : Dt} {v1 v2 v3 v4 v5 v6 s1 s2 s3 : Int} {d' : Dt} {x : ((Dt × Int) ⊕ ((Dt × Int) ⊕ ((Dt × Int) ⊕ Dt)))} (F : Fx w G cX11_keepPairs RX11 7 none { frames := 2, cells := 0, slots := 0, locals := 48 }) (hX : WF dd m) (hp : PB m 1545 11) (h : fX11_keepPairs_303 d v1 v2 v3 v4 v5 v6 s1 s2 s3 = some x) (K : (Sum.elim (fX11_keepPairs_244P w l G (QM w G WF none d' m 0 0) m v1 v2 v3 v4 v5) (Sum.elim (fX11_keepPairs_232P w l G (QM w G WF none d' m 0 0) m v1 v2 v3 v4) (Sum.elim (fX11_keepPairs_173P w l G (QM w G WF none d' m 0 0) m v1) (fun q => q = d')))) x) : V w l WF G (QM w G WF none d' m 0 0) d m 0 0 303 [mA 1545, mI v1, mI v2, mI v3, mI v4, mI v5, mI v6] [mI s3, mI s2, mI s1, mA 1639] := by
  unfold fX11_keepPairs_303 at h
  refine v_ior F dX11_keepPairs_303 ?_
  obtain ⟨hi22, h⟩ := ck_some h
  obtain ⟨d23, ed23, h⟩ := sd_some h
  refine v_zast F dX11_keepPairs_304 (ar_X11_135 hX hp) hi22 ?_
  refine v_nD ed23 ?_
  obtain ⟨x24, ex24, h⟩ := lv_some h
  refine v_iincN F dX11_keepPairs_305 (Nat.le_of_ble_eq_true rfl) rfl ex24 (L' := [mA 1545, mI v1, mI v2, mI v3, mI v4, mI v5, mI x24]) rfl ?_
  refine v_goto F dX11_keepPairs_308 rfl ?_
  cases h
  exact K
theorem fX11_keepPairs_244f_ok {w : Wd} {l : Launch} {G : Cx} {m dd : Dt} {v1 v2 v3 v4 v5 : Int} {d' : Dt} {s : Dt × Int} {x : ((Dt × Int) ⊕ ((Dt × Int) ⊕ ((Dt × Int) ⊕ Dt)))} (F : Fx w G cX11_keepPairs RX11 7 none { frames := 2, cells := 0, slots := 0, locals := 48 }) (hX : WF dd m) (hp : PB m 1545 11) (h : fX11_keepPairs_244f v1 v2 v3 v4 v5 s = some x) (K : (Sum.elim (fX11_keepPairs_244P w l G (QM w G WF none d' m 0 0) m v1 v2 v3 v4 v5) (Sum.elim (fX11_keepPairs_232P w l G (QM w G WF none d' m 0 0) m v1 v2 v3 v4) (Sum.elim (fX11_keepPairs_173P w l G (QM w G WF none d' m 0 0) m v1) (fun q => q = d')))) x) : V w l WF G (QM w G WF none d' m 0 0) s.1 m 0 0 244 [mA 1545, mI v1, mI v2, mI v3, mI v4, mI v5, mI (s.2)] [] := by
  obtain ⟨d, v6⟩ := s
  unfold fX11_keepPairs_244f at h
  dsimp only at h
  refine v_iload F dX11_keepPairs_244 rfl ?_
  refine v_aload_n F dX11_keepPairs_246 rfl rfl ?_
  refine gf_X11_755 F dX11_keepPairs_247 hp ?_
  refine v_icmp_ge F dX11_keepPairs_250 rfl (fun hq15 => ?_) (fun hq15 => ?_)
  · rw [if_pos hq15] at h
    obtain ⟨z, hu, ez⟩ := up_some h
    clear h
    subst ez
    have h := hu
    clear hu
    obtain ⟨x16, ex16, h⟩ := lv_some h
    refine v_iincN F dX11_keepPairs_311 (Nat.le_of_ble_eq_true rfl) rfl ex16 (L' := [mA 1545, mI v1, mI v2, mI v3, mI v4, mI x16, mI v6]) rfl ?_
    refine v_goto F dX11_keepPairs_314 rfl ?_
    cases h
    refine v_fgt (L' := [mA 1545, mI v1, mI v2, mI v3, mI v4, mI x16, mU]) ⟨Or.inl rfl, Or.inl rfl, Or.inl rfl, Or.inl rfl, Or.inl rfl, Or.inl rfl, Or.inr rfl, trivial⟩ ?_
    exact K
  · rw [if_neg hq15] at h
    refine v_aload_n F dX11_keepPairs_253 rfl rfl ?_
    refine gf_X11_1031 F dX11_keepPairs_254 hp (v := 1639) rfl ?_
    refine v_bipush F dX11_keepPairs_257 rfl ⟨by decide, by decide⟩ ?_
    refine v_iload F dX11_keepPairs_259 rfl ?_
    refine v_imul F dX11_keepPairs_261 ?_
    refine v_iload F dX11_keepPairs_262 rfl ?_
    refine v_iadd F dX11_keepPairs_264 ?_
    obtain ⟨x17, ex17, h⟩ := lv_some h
    refine v_nI ex17 ?_
    refine v_dup2_IA F dX11_keepPairs_265 ?_
    obtain ⟨hi18, h⟩ := ck_some h
    refine v_zald F dX11_keepPairs_266 (ar_X11_135 hX hp) hi18 ?_
    refine v_aload_n F dX11_keepPairs_267 rfl rfl ?_
    refine gf_X11_1031 F dX11_keepPairs_268 hp (v := 1639) rfl ?_
    refine v_bipush F dX11_keepPairs_271 rfl ⟨by decide, by decide⟩ ?_
    refine v_iload F dX11_keepPairs_273 rfl ?_
    refine v_imul F dX11_keepPairs_275 ?_
    refine v_iload_n F dX11_keepPairs_276 rfl rfl ?_
    refine v_iadd F dX11_keepPairs_277 ?_
    obtain ⟨x19, ex19, h⟩ := lv_some h
    refine v_nI ex19 ?_
    obtain ⟨hi20, h⟩ := ck_some h
    refine v_zald F dX11_keepPairs_278 (ar_X11_135 hX hp) hi20 ?_
    refine v_if_eq F dX11_keepPairs_279 rfl (fun hq21 => ?_) (fun hq21 => ?_)
    · rw [if_pos hq21] at h
      refine v_iconst F dX11_keepPairs_302 ⟨by decide, by decide⟩ ?_
      exact fX11_keepPairs_303_ok F hX hp h K
    · rw [if_neg hq21] at h
      refine v_aload_n F dX11_keepPairs_282 rfl rfl ?_
      refine gf_X11_1031 F dX11_keepPairs_283 hp (v := 1639) rfl ?_
      refine v_bipush F dX11_keepPairs_286 rfl ⟨by decide, by decide⟩ ?_
      refine v_iload F dX11_keepPairs_288 rfl ?_
      refine v_imul F dX11_keepPairs_290 ?_
      refine v_iload F dX11_keepPairs_291 rfl ?_
      refine v_iadd F dX11_keepPairs_293 ?_
      obtain ⟨x25, ex25, h⟩ := lv_some h
      refine v_nI ex25 ?_
      obtain ⟨hi26, h⟩ := ck_some h
      refine v_zald F dX11_keepPairs_294 (ar_X11_135 hX hp) hi26 ?_
      refine v_if_eq F dX11_keepPairs_295 rfl (fun hq27 => ?_) (fun hq27 => ?_)
      · rw [if_pos hq27] at h
        refine v_iconst F dX11_keepPairs_302 ⟨by decide, by decide⟩ ?_
        exact fX11_keepPairs_303_ok F hX hp h K
      · rw [if_neg hq27] at h
        refine v_iconst F dX11_keepPairs_298 ⟨by decide, by decide⟩ ?_
        refine v_goto F dX11_keepPairs_299 rfl ?_
        exact fX11_keepPairs_303_ok F hX hp h K
theorem fX11_keepPairs_244_ok {w : Wd} {l : Launch} {G : Cx} {d m dd : Dt} {v1 v2 v3 v4 v5 v6 : Int} {d' : Dt} {x : ((Dt × Int) ⊕ ((Dt × Int) ⊕ Dt))} (F : Fx w G cX11_keepPairs RX11 7 none { frames := 2, cells := 0, slots := 0, locals := 48 }) (hX : WF dd m) (hp : PB m 1545 11) (h : fX11_keepPairs_244 d v1 v2 v3 v4 v5 v6 = some x) (K : (Sum.elim (fX11_keepPairs_232P w l G (QM w G WF none d' m 0 0) m v1 v2 v3 v4) (Sum.elim (fX11_keepPairs_173P w l G (QM w G WF none d' m 0 0) m v1) (fun q => q = d'))) x) : V w l WF G (QM w G WF none d' m 0 0) d m 0 0 244 [mA 1545, mI v1, mI v2, mI v3, mI v4, mI v5, mI v6] [] := by
  unfold fX11_keepPairs_244 at h
  exact loop_ok (P := fX11_keepPairs_244P w l G (QM w G WF none d' m 0 0) m v1 v2 v3 v4 v5) (fun s x hx h1 h2 => fX11_keepPairs_244f_ok F hX hp hx (by
    cases x with
    | inl s' => exact h1 s' rfl
    | inr z => cases h2 z rfl; exact K)) h
theorem fX11_keepPairs_232f_ok {w : Wd} {l : Launch} {G : Cx} {m dd : Dt} {v1 v2 v3 v4 : Int} {d' : Dt} {s : Dt × Int} {x : ((Dt × Int) ⊕ ((Dt × Int) ⊕ Dt))} (F : Fx w G cX11_keepPairs RX11 7 none { frames := 2, cells := 0, slots := 0, locals := 48 }) (hX : WF dd m) (hp : PB m 1545 11) (h : fX11_keepPairs_232f v1 v2 v3 v4 s = some x) (K : (Sum.elim (fX11_keepPairs_232P w l G (QM w G WF none d' m 0 0) m v1 v2 v3 v4) (Sum.elim (fX11_keepPairs_173P w l G (QM w G WF none d' m 0 0) m v1) (fun q => q = d'))) x) : V w l WF G (QM w G WF none d' m 0 0) s.1 m 0 0 232 [mA 1545, mI v1, mI v2, mI v3, mI v4, mI (s.2), mU] [] := by
  obtain ⟨d, v5⟩ := s
  unfold fX11_keepPairs_232f at h
  dsimp only at h
  refine v_iload F dX11_keepPairs_232 rfl ?_
  refine v_aload_n F dX11_keepPairs_234 rfl rfl ?_
  refine gf_X11_755 F dX11_keepPairs_235 hp ?_
  refine v_icmp_ge F dX11_keepPairs_238 rfl (fun hq13 => ?_) (fun hq13 => ?_)
  · rw [if_pos hq13] at h
    obtain ⟨z, hu, ez⟩ := up_some h
    clear h
    subst ez
    have h := hu
    clear hu
    obtain ⟨x14, ex14, h⟩ := lv_some h
    refine v_iincN F dX11_keepPairs_317 (Nat.le_of_ble_eq_true rfl) rfl ex14 (L' := [mA 1545, mI v1, mI x14, mI v3, mI v4, mI v5, mU]) rfl ?_
    refine v_goto F dX11_keepPairs_320 rfl ?_
    cases h
    refine v_fgt (L' := [mA 1545, mI v1, mI x14, mU, mU, mU, mU]) ⟨Or.inl rfl, Or.inl rfl, Or.inl rfl, Or.inr rfl, Or.inr rfl, Or.inr rfl, Or.inl rfl, trivial⟩ ?_
    exact K
  · rw [if_neg hq13] at h
    refine v_iconst F dX11_keepPairs_241 ⟨by decide, by decide⟩ ?_
    refine v_istore F dX11_keepPairs_242 (Nat.le_of_ble_eq_true rfl) (L' := [mA 1545, mI v1, mI v2, mI v3, mI v4, mI v5, mI 0]) rfl ?_
    exact fX11_keepPairs_244_ok F hX hp h K
theorem fX11_keepPairs_232_ok {w : Wd} {l : Launch} {G : Cx} {d m dd : Dt} {v1 v2 v3 v4 v5 : Int} {d' : Dt} {x : ((Dt × Int) ⊕ Dt)} (F : Fx w G cX11_keepPairs RX11 7 none { frames := 2, cells := 0, slots := 0, locals := 48 }) (hX : WF dd m) (hp : PB m 1545 11) (h : fX11_keepPairs_232 d v1 v2 v3 v4 v5 = some x) (K : (Sum.elim (fX11_keepPairs_173P w l G (QM w G WF none d' m 0 0) m v1) (fun q => q = d')) x) : V w l WF G (QM w G WF none d' m 0 0) d m 0 0 232 [mA 1545, mI v1, mI v2, mI v3, mI v4, mI v5, mU] [] := by
  unfold fX11_keepPairs_232 at h
  exact loop_ok (P := fX11_keepPairs_232P w l G (QM w G WF none d' m 0 0) m v1 v2 v3 v4) (fun s x hx h1 h2 => fX11_keepPairs_232f_ok F hX hp hx (by
    cases x with
    | inl s' => exact h1 s' rfl
    | inr z => cases h2 z rfl; exact K)) h
theorem fX11_keepPairs_173f_ok {w : Wd} {l : Launch} {G : Cx} {m dd : Dt} {v1 : Int} {d' : Dt} {s : Dt × Int} {x : ((Dt × Int) ⊕ Dt)} (F : Fx w G cX11_keepPairs RX11 7 none { frames := 2, cells := 0, slots := 0, locals := 48 }) (hX : WF dd m) (hp : PB m 1545 11) (h : fX11_keepPairs_173f v1 s = some x) (K : (Sum.elim (fX11_keepPairs_173P w l G (QM w G WF none d' m 0 0) m v1) (fun q => q = d')) x) : V w l WF G (QM w G WF none d' m 0 0) s.1 m 0 0 173 [mA 1545, mI v1, mI (s.2), mU, mU, mU, mU] [] := by
  obtain ⟨d, v2⟩ := s
  unfold fX11_keepPairs_173f at h
  dsimp only at h
  refine v_iload_n F dX11_keepPairs_173 rfl rfl ?_
  refine v_iload_n F dX11_keepPairs_174 rfl rfl ?_
  refine v_icmp_ge F dX11_keepPairs_175 rfl (fun hq3 => ?_) (fun hq3 => ?_)
  · rw [if_pos hq3] at h
    obtain ⟨z, hu, ez⟩ := up_some h
    clear h
    subst ez
    have h := hu
    clear hu
    cases h
    cases (show _ = d' from K)
    exact v_vret F dX11_keepPairs_323
  · rw [if_neg hq3] at h
    refine v_aload_n F dX11_keepPairs_178 rfl rfl ?_
    refine gf_X11_1034 F dX11_keepPairs_179 hp (v := 1640) rfl ?_
    refine v_iload_n F dX11_keepPairs_182 rfl rfl ?_
    obtain ⟨hi4, h⟩ := ck_some h
    refine v_iald F dX11_keepPairs_183 (ar_X11_136 hX hp) hi4 ?_
    refine v_bipush F dX11_keepPairs_184 rfl ⟨by decide, by decide⟩ ?_
    refine v_idiv F dX11_keepPairs_186 (by decide) ?_
    obtain ⟨x5, ex5, h⟩ := lv_some h
    refine v_nI ex5 ?_
    refine v_istore_n F dX11_keepPairs_187 rfl (Nat.le_of_ble_eq_true rfl) (L' := [mA 1545, mI v1, mI v2, mI x5, mU, mU, mU]) rfl ?_
    refine v_aload_n F dX11_keepPairs_188 rfl rfl ?_
    refine gf_X11_1034 F dX11_keepPairs_189 hp (v := 1640) rfl ?_
    refine v_iload_n F dX11_keepPairs_192 rfl rfl ?_
    refine v_iald F dX11_keepPairs_193 (ar_X11_136 hX hp) hi4 ?_
    refine v_bipush F dX11_keepPairs_194 rfl ⟨by decide, by decide⟩ ?_
    refine v_irem F dX11_keepPairs_196 (by decide) ?_
    obtain ⟨x6, ex6, h⟩ := lv_some h
    refine v_nI ex6 ?_
    refine v_istore F dX11_keepPairs_197 (Nat.le_of_ble_eq_true rfl) (L' := [mA 1545, mI v1, mI v2, mI x5, mI x6, mU, mU]) rfl ?_
    refine v_aload_n F dX11_keepPairs_199 rfl rfl ?_
    refine gf_X11_1031 F dX11_keepPairs_200 hp (v := 1639) rfl ?_
    refine v_bipush F dX11_keepPairs_203 rfl ⟨by decide, by decide⟩ ?_
    refine v_iload F dX11_keepPairs_205 rfl ?_
    refine v_imul F dX11_keepPairs_207 ?_
    refine v_iload_n F dX11_keepPairs_208 rfl rfl ?_
    refine v_iadd F dX11_keepPairs_209 ?_
    obtain ⟨x7, ex7, h⟩ := lv_some h
    refine v_nI ex7 ?_
    obtain ⟨hi8, h⟩ := ck_some h
    refine v_zald F dX11_keepPairs_210 (ar_X11_135 hX hp) hi8 ?_
    refine v_if_eq F dX11_keepPairs_211 rfl (fun hq9 => ?_) (fun hq9 => ?_)
    · rw [if_pos hq9] at h
      refine v_aload_n F dX11_keepPairs_217 rfl rfl ?_
      refine gf_X11_1022 F dX11_keepPairs_218 hp (v := 1638) rfl ?_
      refine v_aload_n F dX11_keepPairs_221 rfl rfl ?_
      refine gf_X11_1034 F dX11_keepPairs_222 hp (v := 1640) rfl ?_
      refine v_iload_n F dX11_keepPairs_225 rfl rfl ?_
      refine v_iald F dX11_keepPairs_226 (ar_X11_136 hX hp) hi4 ?_
      refine v_iconst F dX11_keepPairs_227 ⟨by decide, by decide⟩ ?_
      obtain ⟨x10, ex10, h⟩ := lv_some h
      refine v_n2 ex10 ?_
      obtain ⟨hi11, h⟩ := ck_some h
      obtain ⟨d12, ed12, h⟩ := sd_some h
      refine v_zast F dX11_keepPairs_228 (ar_X11_134 hX hp) hi11 ?_
      refine v_nD ed12 ?_
      refine v_iconst F dX11_keepPairs_229 ⟨by decide, by decide⟩ ?_
      refine v_istore F dX11_keepPairs_230 (Nat.le_of_ble_eq_true rfl) (L' := [mA 1545, mI v1, mI v2, mI x5, mI x6, mI 0, mU]) rfl ?_
      exact fX11_keepPairs_232_ok F hX hp h K
    · rw [if_neg hq9] at h
      refine v_goto F dX11_keepPairs_214 rfl ?_
      obtain ⟨x28, ex28, h⟩ := lv_some h
      refine v_iincN F dX11_keepPairs_317 (Nat.le_of_ble_eq_true rfl) rfl ex28 (L' := [mA 1545, mI v1, mI x28, mI x5, mI x6, mU, mU]) rfl ?_
      refine v_goto F dX11_keepPairs_320 rfl ?_
      cases h
      refine v_fgt (L' := [mA 1545, mI v1, mI x28, mU, mU, mU, mU]) ⟨Or.inl rfl, Or.inl rfl, Or.inl rfl, Or.inr rfl, Or.inr rfl, Or.inl rfl, Or.inl rfl, trivial⟩ ?_
      exact K
theorem fX11_keepPairs_173_ok {w : Wd} {l : Launch} {G : Cx} {d m dd : Dt} {v1 v2 : Int} {d' : Dt} {x : Dt} (F : Fx w G cX11_keepPairs RX11 7 none { frames := 2, cells := 0, slots := 0, locals := 48 }) (hX : WF dd m) (hp : PB m 1545 11) (h : fX11_keepPairs_173 d v1 v2 = some x) (K : (fun q => q = d') x) : V w l WF G (QM w G WF none d' m 0 0) d m 0 0 173 [mA 1545, mI v1, mI v2, mU, mU, mU, mU] [] := by
  unfold fX11_keepPairs_173 at h
  exact loop_ok (P := fX11_keepPairs_173P w l G (QM w G WF none d' m 0 0) m v1) (fun s x hx h1 h2 => fX11_keepPairs_173f_ok F hX hp hx (by
    cases x with
    | inl s' => exact h1 s' rfl
    | inr z => cases h2 z rfl; exact K)) h
def fX11_keepPairs_53P (w : Wd) (l : Launch) (G : Cx) (Q : State → Prop) (m : Dt) (v2 : Int) (s : Dt × Int × Int) : Prop := V w l WF G Q s.1 m 0 0 53 [mA 1545, mI (s.2.1), mI v2, mI (s.2.2), mU, mU, mU] []
def fX11_keepPairs_94P (w : Wd) (l : Launch) (G : Cx) (Q : State → Prop) (m : Dt) (v1 v2 v3 : Int) (s : Dt × Int) : Prop := V w l WF G Q s.1 m 0 0 94 [mA 1545, mI v1, mI v2, mI v3, mI (s.2), mU, mU] []
theorem fX11_keepPairs_143_ok {w : Wd} {l : Launch} {G : Cx} {d m dd : Dt} {v1 v2 v3 v4 : Int} {d' : Dt} {x : ((Dt × Int × Int) ⊕ ((Dt × Int × Int) ⊕ Dt))} (F : Fx w G cX11_keepPairs RX11 7 none { frames := 2, cells := 0, slots := 0, locals := 48 }) (hX : WF dd m) (hp : PB m 1545 11) (h : fX11_keepPairs_143 d v1 v2 v3 v4 = some x) (K : (Sum.elim (fX11_keepPairs_53P w l G (QM w G WF none d' m 0 0) m v2) (Sum.elim (fX11_keepPairs_43P w l G (QM w G WF none d' m 0 0) m) (fun q => q = d'))) x) : V w l WF G (QM w G WF none d' m 0 0) d m 0 0 143 [mA 1545, mI v1, mI v2, mI v3, mI v4, mU, mU] [] := by
  unfold fX11_keepPairs_143 at h
  refine v_aload_n F dX11_keepPairs_143 rfl rfl ?_
  refine gf_X11_1034 F dX11_keepPairs_144 hp (v := 1640) rfl ?_
  refine v_iload F dX11_keepPairs_147 rfl ?_
  refine v_bipush F dX11_keepPairs_149 rfl ⟨by decide, by decide⟩ ?_
  refine v_iload_n F dX11_keepPairs_151 rfl rfl ?_
  refine v_imul F dX11_keepPairs_152 ?_
  refine v_iload_n F dX11_keepPairs_153 rfl rfl ?_
  refine v_iadd F dX11_keepPairs_154 ?_
  obtain ⟨hi41, h⟩ := ck_some h
  obtain ⟨d42, ed42, h⟩ := sd_some h
  refine v_iast F dX11_keepPairs_155 (ar_X11_136 hX hp) hi41 ?_
  refine v_nD ed42 ?_
  obtain ⟨x43, ex43, h⟩ := lv_some h
  refine v_iincN F dX11_keepPairs_156 (Nat.le_of_ble_eq_true rfl) rfl ex43 (L' := [mA 1545, mI x43, mI v2, mI v3, mI v4, mU, mU]) rfl ?_
  obtain ⟨x44, ex44, h⟩ := lv_some h
  refine v_iincN F dX11_keepPairs_159 (Nat.le_of_ble_eq_true rfl) rfl ex44 (L' := [mA 1545, mI x43, mI v2, mI x44, mI v4, mU, mU]) rfl ?_
  refine v_goto F dX11_keepPairs_162 rfl ?_
  cases h
  refine v_fgt (L' := [mA 1545, mI x43, mI v2, mI x44, mU, mU, mU]) ⟨Or.inl rfl, Or.inl rfl, Or.inl rfl, Or.inl rfl, Or.inr rfl, Or.inl rfl, Or.inl rfl, trivial⟩ ?_
  exact K
theorem fX11_keepPairs_94f_ok {w : Wd} {l : Launch} {G : Cx} {m dd : Dt} {v1 v2 v3 : Int} {d' : Dt} {s : Dt × Int} {x : ((Dt × Int) ⊕ ((Dt × Int × Int) ⊕ ((Dt × Int × Int) ⊕ Dt)))} (F : Fx w G cX11_keepPairs RX11 7 none { frames := 2, cells := 0, slots := 0, locals := 48 }) (hX : WF dd m) (hp : PB m 1545 11) (h : fX11_keepPairs_94f v1 v2 v3 s = some x) (K : (Sum.elim (fX11_keepPairs_94P w l G (QM w G WF none d' m 0 0) m v1 v2 v3) (Sum.elim (fX11_keepPairs_53P w l G (QM w G WF none d' m 0 0) m v2) (Sum.elim (fX11_keepPairs_43P w l G (QM w G WF none d' m 0 0) m) (fun q => q = d')))) x) : V w l WF G (QM w G WF none d' m 0 0) s.1 m 0 0 94 [mA 1545, mI v1, mI v2, mI v3, mI (s.2), mU, mU] [] := by
  obtain ⟨d, v4⟩ := s
  unfold fX11_keepPairs_94f at h
  dsimp only at h
  refine v_iload F dX11_keepPairs_94 rfl ?_
  refine v_if_le F dX11_keepPairs_96 rfl (fun hq40 => ?_) (fun hq40 => ?_)
  · rw [if_pos hq40] at h
    obtain ⟨z, hu, ez⟩ := up_some h
    clear h
    subst ez
    have h := hu
    clear hu
    exact fX11_keepPairs_143_ok F hX hp h K
  · rw [if_neg hq40] at h
    refine v_aload_n F dX11_keepPairs_99 rfl rfl ?_
    refine v_bipush F dX11_keepPairs_100 rfl ⟨by decide, by decide⟩ ?_
    refine v_iload_n F dX11_keepPairs_102 rfl rfl ?_
    refine v_imul F dX11_keepPairs_103 ?_
    refine v_iload_n F dX11_keepPairs_104 rfl rfl ?_
    refine v_iadd F dX11_keepPairs_105 ?_
    refine v_aload_n F dX11_keepPairs_106 rfl rfl ?_
    refine gf_X11_1034 F dX11_keepPairs_107 hp (v := 1640) rfl ?_
    refine v_iload F dX11_keepPairs_110 rfl ?_
    refine v_iconst F dX11_keepPairs_112 ⟨by decide, by decide⟩ ?_
    refine v_isub F dX11_keepPairs_113 ?_
    obtain ⟨x45, ex45, h⟩ := lv_some h
    refine v_nI ex45 ?_
    obtain ⟨hi46, h⟩ := ck_some h
    refine v_iald F dX11_keepPairs_114 (ar_X11_136 hX hp) hi46 ?_
    obtain ⟨x47, hc48, h⟩ := b1_some h
    refine v_callVv (c := 11) F dX11_keepPairs_115 cv_X11_1037 rfl (PB.ob hp hX (Nat.le_of_ble_eq_true rfl)) (Nat.le_of_ble_eq_true rfl) rfl (vm_X11_isDuelAhead hp hc48) rfl (rOk.of rfl) ?_
    refine v_if_eq F dX11_keepPairs_118 rfl (fun hq49 => ?_) (fun hq49 => ?_)
    · rw [if_pos hq49] at h
      obtain ⟨z, hu, ez⟩ := up_some h
      clear h
      subst ez
      have h := hu
      clear hu
      exact fX11_keepPairs_143_ok F hX hp h K
    · rw [if_neg hq49] at h
      refine v_aload_n F dX11_keepPairs_121 rfl rfl ?_
      refine gf_X11_1034 F dX11_keepPairs_122 hp (v := 1640) rfl ?_
      refine v_iload F dX11_keepPairs_125 rfl ?_
      refine v_aload_n F dX11_keepPairs_127 rfl rfl ?_
      refine gf_X11_1034 F dX11_keepPairs_128 hp (v := 1640) rfl ?_
      refine v_iload F dX11_keepPairs_131 rfl ?_
      refine v_iconst F dX11_keepPairs_133 ⟨by decide, by decide⟩ ?_
      refine v_isub F dX11_keepPairs_134 ?_
      obtain ⟨x50, ex50, h⟩ := lv_some h
      refine v_nI ex50 ?_
      obtain ⟨hi51, h⟩ := ck_some h
      refine v_iald F dX11_keepPairs_135 (ar_X11_136 hX hp) hi51 ?_
      obtain ⟨hi52, h⟩ := ck_some h
      obtain ⟨d53, ed53, h⟩ := sd_some h
      refine v_iast F dX11_keepPairs_136 (ar_X11_136 hX hp) hi52 ?_
      refine v_nD ed53 ?_
      obtain ⟨x54, ex54, h⟩ := lv_some h
      refine v_iincN F dX11_keepPairs_137 (Nat.le_of_ble_eq_true rfl) rfl ex54 (L' := [mA 1545, mI v1, mI v2, mI v3, mI x54, mU, mU]) rfl ?_
      refine v_goto F dX11_keepPairs_140 rfl ?_
      cases h
      exact K
theorem fX11_keepPairs_94_ok {w : Wd} {l : Launch} {G : Cx} {d m dd : Dt} {v1 v2 v3 v4 : Int} {d' : Dt} {x : ((Dt × Int × Int) ⊕ ((Dt × Int × Int) ⊕ Dt))} (F : Fx w G cX11_keepPairs RX11 7 none { frames := 2, cells := 0, slots := 0, locals := 48 }) (hX : WF dd m) (hp : PB m 1545 11) (h : fX11_keepPairs_94 d v1 v2 v3 v4 = some x) (K : (Sum.elim (fX11_keepPairs_53P w l G (QM w G WF none d' m 0 0) m v2) (Sum.elim (fX11_keepPairs_43P w l G (QM w G WF none d' m 0 0) m) (fun q => q = d'))) x) : V w l WF G (QM w G WF none d' m 0 0) d m 0 0 94 [mA 1545, mI v1, mI v2, mI v3, mI v4, mU, mU] [] := by
  unfold fX11_keepPairs_94 at h
  exact loop_ok (P := fX11_keepPairs_94P w l G (QM w G WF none d' m 0 0) m v1 v2 v3) (fun s x hx h1 h2 => fX11_keepPairs_94f_ok F hX hp hx (by
    cases x with
    | inl s' => exact h1 s' rfl
    | inr z => cases h2 z rfl; exact K)) h
theorem fX11_keepPairs_53f_ok {w : Wd} {l : Launch} {G : Cx} {m dd : Dt} {v2 : Int} {d' : Dt} {s : Dt × Int × Int} {x : ((Dt × Int × Int) ⊕ ((Dt × Int × Int) ⊕ Dt))} (F : Fx w G cX11_keepPairs RX11 7 none { frames := 2, cells := 0, slots := 0, locals := 48 }) (hX : WF dd m) (hp : PB m 1545 11) (h : fX11_keepPairs_53f v2 s = some x) (K : (Sum.elim (fX11_keepPairs_53P w l G (QM w G WF none d' m 0 0) m v2) (Sum.elim (fX11_keepPairs_43P w l G (QM w G WF none d' m 0 0) m) (fun q => q = d'))) x) : V w l WF G (QM w G WF none d' m 0 0) s.1 m 0 0 53 [mA 1545, mI (s.2.1), mI v2, mI (s.2.2), mU, mU, mU] [] := by
  obtain ⟨d, v1, v3⟩ := s
  unfold fX11_keepPairs_53f at h
  dsimp only at h
  refine v_iload_n F dX11_keepPairs_53 rfl rfl ?_
  refine v_aload_n F dX11_keepPairs_54 rfl rfl ?_
  refine gf_X11_755 F dX11_keepPairs_55 hp ?_
  refine v_icmp_ge F dX11_keepPairs_58 rfl (fun hq29 => ?_) (fun hq29 => ?_)
  · rw [if_pos hq29] at h
    obtain ⟨z, hu, ez⟩ := up_some h
    clear h
    subst ez
    have h := hu
    clear hu
    obtain ⟨x30, ex30, h⟩ := lv_some h
    refine v_iincN F dX11_keepPairs_165 (Nat.le_of_ble_eq_true rfl) rfl ex30 (L' := [mA 1545, mI v1, mI x30, mI v3, mU, mU, mU]) rfl ?_
    refine v_goto F dX11_keepPairs_168 rfl ?_
    cases h
    refine v_fgt (L' := [mA 1545, mI v1, mI x30, mU, mU, mU, mU]) ⟨Or.inl rfl, Or.inl rfl, Or.inl rfl, Or.inr rfl, Or.inl rfl, Or.inl rfl, Or.inl rfl, trivial⟩ ?_
    exact K
  · rw [if_neg hq29] at h
    refine v_aload_n F dX11_keepPairs_61 rfl rfl ?_
    refine gf_X11_764 F dX11_keepPairs_62 hp (v := 1617) rfl ?_
    refine v_iload_n F dX11_keepPairs_65 rfl rfl ?_
    obtain ⟨hi31, h⟩ := ck_some h
    refine v_zald F dX11_keepPairs_66 (ar_X11_101 hX hp) hi31 ?_
    refine v_if_eq F dX11_keepPairs_67 rfl (fun hq32 => ?_) (fun hq32 => ?_)
    · rw [if_pos hq32] at h
      obtain ⟨x33, ex33, h⟩ := lv_some h
      refine v_iincN F dX11_keepPairs_159 (Nat.le_of_ble_eq_true rfl) rfl ex33 (L' := [mA 1545, mI v1, mI v2, mI x33, mU, mU, mU]) rfl ?_
      refine v_goto F dX11_keepPairs_162 rfl ?_
      cases h
      exact K
    · rw [if_neg hq32] at h
      refine v_aload_n F dX11_keepPairs_70 rfl rfl ?_
      refine gf_X11_764 F dX11_keepPairs_71 hp (v := 1617) rfl ?_
      refine v_iload_n F dX11_keepPairs_74 rfl rfl ?_
      obtain ⟨hi34, h⟩ := ck_some h
      refine v_zald F dX11_keepPairs_75 (ar_X11_101 hX hp) hi34 ?_
      refine v_if_eq F dX11_keepPairs_76 rfl (fun hq35 => ?_) (fun hq35 => ?_)
      · rw [if_pos hq35] at h
        obtain ⟨x36, ex36, h⟩ := lv_some h
        refine v_iincN F dX11_keepPairs_159 (Nat.le_of_ble_eq_true rfl) rfl ex36 (L' := [mA 1545, mI v1, mI v2, mI x36, mU, mU, mU]) rfl ?_
        refine v_goto F dX11_keepPairs_162 rfl ?_
        cases h
        exact K
      · rw [if_neg hq35] at h
        refine v_aload_n F dX11_keepPairs_79 rfl rfl ?_
        refine v_iload_n F dX11_keepPairs_80 rfl rfl ?_
        refine v_iload_n F dX11_keepPairs_81 rfl rfl ?_
        obtain ⟨x37, hc38, h⟩ := b1_some h
        refine v_callVv (c := 11) F dX11_keepPairs_82 cv_X11_1019 rfl (PB.ob hp hX (Nat.le_of_ble_eq_true rfl)) (Nat.le_of_ble_eq_true rfl) rfl (vm_X11_beats hp hc38) rfl (rOk.of rfl) ?_
        refine v_if_ne F dX11_keepPairs_85 rfl (fun hq39 => ?_) (fun hq39 => ?_)
        · rw [if_neg hq39] at h
          refine v_iload_n F dX11_keepPairs_91 rfl rfl ?_
          refine v_istore F dX11_keepPairs_92 (Nat.le_of_ble_eq_true rfl) (L' := [mA 1545, mI v1, mI v2, mI v3, mI v1, mU, mU]) rfl ?_
          exact fX11_keepPairs_94_ok F hX hp h K
        · rw [if_pos hq39] at h
          refine v_goto F dX11_keepPairs_88 rfl ?_
          obtain ⟨x55, ex55, h⟩ := lv_some h
          refine v_iincN F dX11_keepPairs_159 (Nat.le_of_ble_eq_true rfl) rfl ex55 (L' := [mA 1545, mI v1, mI v2, mI x55, mU, mU, mU]) rfl ?_
          refine v_goto F dX11_keepPairs_162 rfl ?_
          cases h
          exact K
theorem fX11_keepPairs_53_ok {w : Wd} {l : Launch} {G : Cx} {d m dd : Dt} {v1 v2 v3 : Int} {d' : Dt} {x : ((Dt × Int × Int) ⊕ Dt)} (F : Fx w G cX11_keepPairs RX11 7 none { frames := 2, cells := 0, slots := 0, locals := 48 }) (hX : WF dd m) (hp : PB m 1545 11) (h : fX11_keepPairs_53 d v1 v2 v3 = some x) (K : (Sum.elim (fX11_keepPairs_43P w l G (QM w G WF none d' m 0 0) m) (fun q => q = d')) x) : V w l WF G (QM w G WF none d' m 0 0) d m 0 0 53 [mA 1545, mI v1, mI v2, mI v3, mU, mU, mU] [] := by
  unfold fX11_keepPairs_53 at h
  exact loop_ok (P := fX11_keepPairs_53P w l G (QM w G WF none d' m 0 0) m v2) (fun s x hx h1 h2 => fX11_keepPairs_53f_ok F hX hp hx (by
    cases x with
    | inl s' => exact h1 s' rfl
    | inr z => cases h2 z rfl; exact K)) h
theorem fX11_keepPairs_43f_ok {w : Wd} {l : Launch} {G : Cx} {m dd : Dt} {d' : Dt} {s : Dt × Int × Int} {x : ((Dt × Int × Int) ⊕ Dt)} (F : Fx w G cX11_keepPairs RX11 7 none { frames := 2, cells := 0, slots := 0, locals := 48 }) (hX : WF dd m) (hp : PB m 1545 11) (h : fX11_keepPairs_43f s = some x) (K : (Sum.elim (fX11_keepPairs_43P w l G (QM w G WF none d' m 0 0) m) (fun q => q = d')) x) : V w l WF G (QM w G WF none d' m 0 0) s.1 m 0 0 43 [mA 1545, mI (s.2.1), mI (s.2.2), mU, mU, mU, mU] [] := by
  obtain ⟨d, v1, v2⟩ := s
  unfold fX11_keepPairs_43f at h
  dsimp only at h
  refine v_iload_n F dX11_keepPairs_43 rfl rfl ?_
  refine v_aload_n F dX11_keepPairs_44 rfl rfl ?_
  refine gf_X11_755 F dX11_keepPairs_45 hp ?_
  refine v_icmp_ge F dX11_keepPairs_48 rfl (fun hq2 => ?_) (fun hq2 => ?_)
  · rw [if_pos hq2] at h
    obtain ⟨z, hu, ez⟩ := up_some h
    clear h
    subst ez
    have h := hu
    clear hu
    refine v_iconst F dX11_keepPairs_171 ⟨by decide, by decide⟩ ?_
    refine v_istore_n F dX11_keepPairs_172 rfl (Nat.le_of_ble_eq_true rfl) (L' := [mA 1545, mI v1, mI 0, mU, mU, mU, mU]) rfl ?_
    exact fX11_keepPairs_173_ok F hX hp h K
  · rw [if_neg hq2] at h
    refine v_iconst F dX11_keepPairs_51 ⟨by decide, by decide⟩ ?_
    refine v_istore_n F dX11_keepPairs_52 rfl (Nat.le_of_ble_eq_true rfl) (L' := [mA 1545, mI v1, mI v2, mI 0, mU, mU, mU]) rfl ?_
    exact fX11_keepPairs_53_ok F hX hp h K
theorem fX11_keepPairs_43_ok {w : Wd} {l : Launch} {G : Cx} {d m dd : Dt} {v1 v2 : Int} {d' : Dt} {x : Dt} (F : Fx w G cX11_keepPairs RX11 7 none { frames := 2, cells := 0, slots := 0, locals := 48 }) (hX : WF dd m) (hp : PB m 1545 11) (h : fX11_keepPairs_43 d v1 v2 = some x) (K : (fun q => q = d') x) : V w l WF G (QM w G WF none d' m 0 0) d m 0 0 43 [mA 1545, mI v1, mI v2, mU, mU, mU, mU] [] := by
  unfold fX11_keepPairs_43 at h
  exact loop_ok (P := fX11_keepPairs_43P w l G (QM w G WF none d' m 0 0) m) (fun s x hx h1 h2 => fX11_keepPairs_43f_ok F hX hp hx (by
    cases x with
    | inl s' => exact h1 s' rfl
    | inr z => cases h2 z rfl; exact K)) h
theorem fX11_keepPairs_34_ok {w : Wd} {l : Launch} {G : Cx} {d m dd : Dt} {v1 v2 s1 s2 : Int} {d' : Dt} {x : ((Dt × Int) ⊕ Dt)} (F : Fx w G cX11_keepPairs RX11 7 none { frames := 2, cells := 0, slots := 0, locals := 48 }) (hX : WF dd m) (hp : PB m 1545 11) (h : fX11_keepPairs_34 d v1 v2 s1 s2 = some x) (K : (Sum.elim (fX11_keepPairs_4P w l G (QM w G WF none d' m 0 0) m v1) (fun q => q = d')) x) : V w l WF G (QM w G WF none d' m 0 0) d m 0 0 34 [mA 1545, mI v1, mI v2, mU, mU, mU, mU] [mI s2, mI s1, mA 1639] := by
  unfold fX11_keepPairs_34 at h
  obtain ⟨hi59, h⟩ := ck_some h
  obtain ⟨d60, ed60, h⟩ := sd_some h
  refine v_zast F dX11_keepPairs_34 (ar_X11_135 hX hp) hi59 ?_
  refine v_nD ed60 ?_
  obtain ⟨x61, ex61, h⟩ := lv_some h
  refine v_iincN F dX11_keepPairs_35 (Nat.le_of_ble_eq_true rfl) rfl ex61 (L' := [mA 1545, mI v1, mI x61, mU, mU, mU, mU]) rfl ?_
  refine v_goto F dX11_keepPairs_38 rfl ?_
  cases h
  exact K
theorem fX11_keepPairs_4f_ok {w : Wd} {l : Launch} {G : Cx} {m dd : Dt} {v1 : Int} {d' : Dt} {s : Dt × Int} {x : ((Dt × Int) ⊕ Dt)} (F : Fx w G cX11_keepPairs RX11 7 none { frames := 2, cells := 0, slots := 0, locals := 48 }) (hX : WF dd m) (hp : PB m 1545 11) (h : fX11_keepPairs_4f v1 s = some x) (K : (Sum.elim (fX11_keepPairs_4P w l G (QM w G WF none d' m 0 0) m v1) (fun q => q = d')) x) : V w l WF G (QM w G WF none d' m 0 0) s.1 m 0 0 4 [mA 1545, mI v1, mI (s.2), mU, mU, mU, mU] [] := by
  obtain ⟨d, v2⟩ := s
  unfold fX11_keepPairs_4f at h
  dsimp only at h
  refine v_iload_n F dX11_keepPairs_4 rfl rfl ?_
  refine v_bipush F dX11_keepPairs_5 rfl ⟨by decide, by decide⟩ ?_
  refine v_icmp_ge F dX11_keepPairs_7 rfl (fun hq1 => ?_) (fun hq1 => ?_)
  · rw [if_pos hq1] at h
    obtain ⟨z, hu, ez⟩ := up_some h
    clear h
    subst ez
    have h := hu
    clear hu
    refine v_iconst F dX11_keepPairs_41 ⟨by decide, by decide⟩ ?_
    refine v_istore_n F dX11_keepPairs_42 rfl (Nat.le_of_ble_eq_true rfl) (L' := [mA 1545, mI v1, mI 0, mU, mU, mU, mU]) rfl ?_
    exact fX11_keepPairs_43_ok F hX hp h K
  · rw [if_neg hq1] at h
    refine v_aload_n F dX11_keepPairs_10 rfl rfl ?_
    refine gf_X11_1022 F dX11_keepPairs_11 hp (v := 1638) rfl ?_
    refine v_iload_n F dX11_keepPairs_14 rfl rfl ?_
    refine v_iconst F dX11_keepPairs_15 ⟨by decide, by decide⟩ ?_
    obtain ⟨hi56, h⟩ := ck_some h
    obtain ⟨d57, ed57, h⟩ := sd_some h
    refine v_zast F dX11_keepPairs_16 (ar_X11_134 hX hp) hi56 ?_
    refine v_nD ed57 ?_
    refine v_aload_n F dX11_keepPairs_17 rfl rfl ?_
    refine gf_X11_1031 F dX11_keepPairs_18 hp (v := 1639) rfl ?_
    refine v_iload_n F dX11_keepPairs_21 rfl rfl ?_
    refine v_iload_n F dX11_keepPairs_22 rfl rfl ?_
    refine v_bipush F dX11_keepPairs_23 rfl ⟨by decide, by decide⟩ ?_
    refine v_irem F dX11_keepPairs_25 (by decide) ?_
    refine v_if_ne F dX11_keepPairs_26 rfl (fun hq58 => ?_) (fun hq58 => ?_)
    · rw [if_neg hq58] at h
      refine v_iconst F dX11_keepPairs_33 ⟨by decide, by decide⟩ ?_
      exact fX11_keepPairs_34_ok F hX hp h K
    · rw [if_pos hq58] at h
      refine v_iconst F dX11_keepPairs_29 ⟨by decide, by decide⟩ ?_
      refine v_goto F dX11_keepPairs_30 rfl ?_
      exact fX11_keepPairs_34_ok F hX hp h K
theorem fX11_keepPairs_4_ok {w : Wd} {l : Launch} {G : Cx} {d m dd : Dt} {v1 v2 : Int} {d' : Dt} {x : Dt} (F : Fx w G cX11_keepPairs RX11 7 none { frames := 2, cells := 0, slots := 0, locals := 48 }) (hX : WF dd m) (hp : PB m 1545 11) (h : fX11_keepPairs_4 d v1 v2 = some x) (K : (fun q => q = d') x) : V w l WF G (QM w G WF none d' m 0 0) d m 0 0 4 [mA 1545, mI v1, mI v2, mU, mU, mU, mU] [] := by
  unfold fX11_keepPairs_4 at h
  exact loop_ok (P := fX11_keepPairs_4P w l G (QM w G WF none d' m 0 0) m v1) (fun s x hx h1 h2 => fX11_keepPairs_4f_ok F hX hp hx (by
    cases x with
    | inl s' => exact h1 s' rfl
    | inr z => cases h2 z rfl; exact K)) h
theorem vm_X11_keepPairs {w : Wd} {l : Launch} {d m : Dt} {d' : Dt} (hp : PB m 1545 11) (h : fX11_keepPairs d = some d') : VM w l WF yX11_keepPairs cX11_keepPairs 7 none 2 48 0 0 d m [mA 1545] none d' m := by
  obtain ⟨x, h, K⟩ : ∃ x, fX11_keepPairs d = some x ∧ x = d' := ⟨_, h, rfl⟩
  refine VM.of (L := [mA 1545, mU, mU, mU, mU, mU, mU]) (by decide +kernel) rfl (Nat.le_of_ble_eq_true rfl) fun G F _ => v_fact fun _ hX _ _ => ?_
  unfold fX11_keepPairs at h
  refine v_iconst F dX11_keepPairs_0 ⟨by decide, by decide⟩ ?_
  refine v_istore_n F dX11_keepPairs_1 rfl (Nat.le_of_ble_eq_true rfl) (L' := [mA 1545, mI 0, mU, mU, mU, mU, mU]) rfl ?_
  refine v_iconst F dX11_keepPairs_2 ⟨by decide, by decide⟩ ?_
  refine v_istore_n F dX11_keepPairs_3 rfl (Nat.le_of_ble_eq_true rfl) (L' := [mA 1545, mI 0, mI 0, mU, mU, mU, mU]) rfl ?_
  exact fX11_keepPairs_4_ok F hX hp h K
