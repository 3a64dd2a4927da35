set_option maxRecDepth 100000
set_option maxHeartbeats 4000000
def fX11_findWays_2P (w : Wd) (l : Launch) (G : Cx) (Q : State → Prop) (m : Dt) (s : Dt × Int) : Prop := V w l WF G Q s.1 m 0 0 2 [mA 1545, mI (s.2), mU, mU, mU] []
def fX11_findWays_87P (w : Wd) (l : Launch) (G : Cx) (Q : State → Prop) (m : Dt) (s : Dt × Int) : Prop := V w l WF G Q s.1 m 0 0 87 [mA 1545, mI (s.2), mU, mU, mU] []
def fX11_findWays_97P (w : Wd) (l : Launch) (G : Cx) (Q : State → Prop) (m : Dt) (v1 : Int) (s : Dt × Int) : Prop := V w l WF G Q s.1 m 0 0 97 [mA 1545, mI v1, mI (s.2), mU, mU] []
def fX11_findWays_107P (w : Wd) (l : Launch) (G : Cx) (Q : State → Prop) (m : Dt) (v1 v2 : Int) (s : Dt × Int) : Prop := V w l WF G Q s.1 m 0 0 107 [mA 1545, mI v1, mI v2, mI (s.2), mU] []
theorem fX11_findWays_107f_ok {w : Wd} {l : Launch} {G : Cx} {m dd : Dt} {v1 v2 : Int} {d' : Dt} {s : Dt × Int} {x : ((Dt × Int) ⊕ ((Dt × Int) ⊕ ((Dt × Int) ⊕ Dt)))} (F : Fx w G cX11_findWays RX11 5 none { frames := 1, cells := 0, slots := 0, locals := 22 }) (hX : WF dd m) (hp : PB m 1545 11) (h : fX11_findWays_107f v1 v2 s = some x) (K : (Sum.elim (fX11_findWays_107P w l G (QM w G WF none d' m 0 0) m v1 v2) (Sum.elim (fX11_findWays_97P w l G (QM w G WF none d' m 0 0) m v1) (Sum.elim (fX11_findWays_87P w l G (QM w G WF none d' m 0 0) m) (fun q => q = d')))) x) : V w l WF G (QM w G WF none d' m 0 0) s.1 m 0 0 107 [mA 1545, mI v1, mI v2, mI (s.2), mU] [] := by
  obtain ⟨d, v3⟩ := s
  unfold fX11_findWays_107f at h
  dsimp only at h
  refine v_iload_n F dX11_findWays_107 rfl rfl ?_
  refine v_aload_n F dX11_findWays_108 rfl rfl ?_
  refine gf_X11_755 F dX11_findWays_109 hp ?_
  refine v_icmp_ge F dX11_findWays_112 rfl (fun hq5 => ?_) (fun hq5 => ?_)
  · rw [if_pos hq5] at h
    obtain ⟨z, hu, ez⟩ := up_some h
    clear h
    subst ez
    have h := hu
    clear hu
    obtain ⟨x6, ex6, h⟩ := lv_some h
    refine v_iincN F dX11_findWays_175 (Nat.le_of_ble_eq_true rfl) rfl ex6 (L' := [mA 1545, mI v1, mI x6, mI v3, mU]) rfl ?_
    refine v_goto F dX11_findWays_178 rfl ?_
    cases h
    refine v_fgt (L' := [mA 1545, mI v1, mI x6, mU, mU]) ⟨Or.inl rfl, Or.inl rfl, Or.inl rfl, Or.inr rfl, Or.inl rfl, trivial⟩ ?_
    exact K
  · rw [if_neg hq5] at h
    refine v_aload_n F dX11_findWays_115 rfl rfl ?_
    refine gf_X11_1025 F dX11_findWays_116 hp (v := 1637) rfl ?_
    refine v_bipush F dX11_findWays_119 rfl ⟨by decide, by decide⟩ ?_
    refine v_iload_n F dX11_findWays_121 rfl rfl ?_
    refine v_imul F dX11_findWays_122 ?_
    refine v_iload_n F dX11_findWays_123 rfl rfl ?_
    refine v_iadd F dX11_findWays_124 ?_
    obtain ⟨x7, ex7, h⟩ := lv_some h
    refine v_nI ex7 ?_
    obtain ⟨hi8, h⟩ := ck_some h
    refine v_iald F dX11_findWays_125 (ar_X11_133 hX hp) hi8 ?_
    refine v_aload_n F dX11_findWays_126 rfl rfl ?_
    refine gf_X11_1025 F dX11_findWays_127 hp (v := 1637) rfl ?_
    refine v_bipush F dX11_findWays_130 rfl ⟨by decide, by decide⟩ ?_
    refine v_iload_n F dX11_findWays_132 rfl rfl ?_
    refine v_imul F dX11_findWays_133 ?_
    refine v_iload_n F dX11_findWays_134 rfl rfl ?_
    refine v_iadd F dX11_findWays_135 ?_
    obtain ⟨x9, ex9, h⟩ := lv_some h
    refine v_nI ex9 ?_
    obtain ⟨hi10, h⟩ := ck_some h
    refine v_iald F dX11_findWays_136 (ar_X11_133 hX hp) hi10 ?_
    refine v_callSv F dX11_findWays_137 cs_X11_179 rfl (vm_J9_min) rfl (rOk.of rfl) ?_
    obtain ⟨x11, ex11, h⟩ := lv_some h
    refine v_nI ex11 ?_
    refine v_istore F dX11_findWays_140 (Nat.le_of_ble_eq_true rfl) (L' := [mA 1545, mI v1, mI v2, mI v3, mI x11]) rfl ?_
    refine v_aload_n F dX11_findWays_142 rfl rfl ?_
    refine gf_X11_1025 F dX11_findWays_143 hp (v := 1637) rfl ?_
    refine v_bipush F dX11_findWays_146 rfl ⟨by decide, by decide⟩ ?_
    refine v_iload_n F dX11_findWays_148 rfl rfl ?_
    refine v_imul F dX11_findWays_149 ?_
    refine v_iload_n F dX11_findWays_150 rfl rfl ?_
    refine v_iadd F dX11_findWays_151 ?_
    refine v_aload_n F dX11_findWays_152 rfl rfl ?_
    refine gf_X11_1025 F dX11_findWays_153 hp (v := 1637) rfl ?_
    refine v_bipush F dX11_findWays_156 rfl ⟨by decide, by decide⟩ ?_
    refine v_iload_n F dX11_findWays_158 rfl rfl ?_
    refine v_imul F dX11_findWays_159 ?_
    refine v_iload_n F dX11_findWays_160 rfl rfl ?_
    refine v_iadd F dX11_findWays_161 ?_
    obtain ⟨x12, ex12, h⟩ := lv_some h
    refine v_nI ex12 ?_
    obtain ⟨hi13, h⟩ := ck_some h
    refine v_iald F dX11_findWays_162 (ar_X11_133 hX hp) hi13 ?_
    refine v_iload F dX11_findWays_163 rfl ?_
    refine v_callSv F dX11_findWays_165 cs_X11_1040 rfl (vm_J9_max) rfl (rOk.of rfl) ?_
    obtain ⟨x14, ex14, h⟩ := lv_some h
    refine v_n2 ex14 ?_
    obtain ⟨hi15, h⟩ := ck_some h
    obtain ⟨d16, ed16, h⟩ := sd_some h
    refine v_iast F dX11_findWays_168 (ar_X11_133 hX hp) hi15 ?_
    refine v_nD ed16 ?_
    obtain ⟨x17, ex17, h⟩ := lv_some h
    refine v_iincN F dX11_findWays_169 (Nat.le_of_ble_eq_true rfl) rfl ex17 (L' := [mA 1545, mI v1, mI v2, mI x17, mI x11]) rfl ?_
    refine v_goto F dX11_findWays_172 rfl ?_
    cases h
    refine v_fgt (L' := [mA 1545, mI v1, mI v2, mI x17, mU]) ⟨Or.inl rfl, Or.inl rfl, Or.inl rfl, Or.inl rfl, Or.inr rfl, trivial⟩ ?_
    exact K
theorem fX11_findWays_107_ok {w : Wd} {l : Launch} {G : Cx} {d m dd : Dt} {v1 v2 v3 : Int} {d' : Dt} {x : ((Dt × Int) ⊕ ((Dt × Int) ⊕ Dt))} (F : Fx w G cX11_findWays RX11 5 none { frames := 1, cells := 0, slots := 0, locals := 22 }) (hX : WF dd m) (hp : PB m 1545 11) (h : fX11_findWays_107 d v1 v2 v3 = some x) (K : (Sum.elim (fX11_findWays_97P w l G (QM w G WF none d' m 0 0) m v1) (Sum.elim (fX11_findWays_87P w l G (QM w G WF none d' m 0 0) m) (fun q => q = d'))) x) : V w l WF G (QM w G WF none d' m 0 0) d m 0 0 107 [mA 1545, mI v1, mI v2, mI v3, mU] [] := by
  unfold fX11_findWays_107 at h
  exact loop_ok (P := fX11_findWays_107P w l G (QM w G WF none d' m 0 0) m v1 v2) (fun s x hx h1 h2 => fX11_findWays_107f_ok F hX hp hx (by
    cases x with
    | inl s' => exact h1 s' rfl
    | inr z => cases h2 z rfl; exact K)) h
theorem fX11_findWays_97f_ok {w : Wd} {l : Launch} {G : Cx} {m dd : Dt} {v1 : Int} {d' : Dt} {s : Dt × Int} {x : ((Dt × Int) ⊕ ((Dt × Int) ⊕ Dt))} (F : Fx w G cX11_findWays RX11 5 none { frames := 1, cells := 0, slots := 0, locals := 22 }) (hX : WF dd m) (hp : PB m 1545 11) (h : fX11_findWays_97f v1 s = some x) (K : (Sum.elim (fX11_findWays_97P w l G (QM w G WF none d' m 0 0) m v1) (Sum.elim (fX11_findWays_87P w l G (QM w G WF none d' m 0 0) m) (fun q => q = d'))) x) : V w l WF G (QM w G WF none d' m 0 0) s.1 m 0 0 97 [mA 1545, mI v1, mI (s.2), mU, mU] [] := by
  obtain ⟨d, v2⟩ := s
  unfold fX11_findWays_97f at h
  dsimp only at h
  refine v_iload_n F dX11_findWays_97 rfl rfl ?_
  refine v_aload_n F dX11_findWays_98 rfl rfl ?_
  refine gf_X11_755 F dX11_findWays_99 hp ?_
  refine v_icmp_ge F dX11_findWays_102 rfl (fun hq3 => ?_) (fun hq3 => ?_)
  · rw [if_pos hq3] at h
    obtain ⟨z, hu, ez⟩ := up_some h
    clear h
    subst ez
    have h := hu
    clear hu
    obtain ⟨x4, ex4, h⟩ := lv_some h
    refine v_iincN F dX11_findWays_181 (Nat.le_of_ble_eq_true rfl) rfl ex4 (L' := [mA 1545, mI x4, mI v2, mU, mU]) rfl ?_
    refine v_goto F dX11_findWays_184 rfl ?_
    cases h
    refine v_fgt (L' := [mA 1545, mI x4, mU, mU, mU]) ⟨Or.inl rfl, Or.inl rfl, Or.inr rfl, Or.inl rfl, Or.inl rfl, trivial⟩ ?_
    exact K
  · rw [if_neg hq3] at h
    refine v_iconst F dX11_findWays_105 ⟨by decide, by decide⟩ ?_
    refine v_istore_n F dX11_findWays_106 rfl (Nat.le_of_ble_eq_true rfl) (L' := [mA 1545, mI v1, mI v2, mI 0, mU]) rfl ?_
    exact fX11_findWays_107_ok F hX hp h K
theorem fX11_findWays_97_ok {w : Wd} {l : Launch} {G : Cx} {d m dd : Dt} {v1 v2 : Int} {d' : Dt} {x : ((Dt × Int) ⊕ Dt)} (F : Fx w G cX11_findWays RX11 5 none { frames := 1, cells := 0, slots := 0, locals := 22 }) (hX : WF dd m) (hp : PB m 1545 11) (h : fX11_findWays_97 d v1 v2 = some x) (K : (Sum.elim (fX11_findWays_87P w l G (QM w G WF none d' m 0 0) m) (fun q => q = d')) x) : V w l WF G (QM w G WF none d' m 0 0) d m 0 0 97 [mA 1545, mI v1, mI v2, mU, mU] [] := by
  unfold fX11_findWays_97 at h
  exact loop_ok (P := fX11_findWays_97P w l G (QM w G WF none d' m 0 0) m v1) (fun s x hx h1 h2 => fX11_findWays_97f_ok F hX hp hx (by
    cases x with
    | inl s' => exact h1 s' rfl
    | inr z => cases h2 z rfl; exact K)) h
theorem fX11_findWays_87f_ok {w : Wd} {l : Launch} {G : Cx} {m dd : Dt} {d' : Dt} {s : Dt × Int} {x : ((Dt × Int) ⊕ Dt)} (F : Fx w G cX11_findWays RX11 5 none { frames := 1, cells := 0, slots := 0, locals := 22 }) (hX : WF dd m) (hp : PB m 1545 11) (h : fX11_findWays_87f s = some x) (K : (Sum.elim (fX11_findWays_87P w l G (QM w G WF none d' m 0 0) m) (fun q => q = d')) x) : V w l WF G (QM w G WF none d' m 0 0) s.1 m 0 0 87 [mA 1545, mI (s.2), mU, mU, mU] [] := by
  obtain ⟨d, v1⟩ := s
  unfold fX11_findWays_87f at h
  dsimp only at h
  refine v_iload_n F dX11_findWays_87 rfl rfl ?_
  refine v_aload_n F dX11_findWays_88 rfl rfl ?_
  refine gf_X11_755 F dX11_findWays_89 hp ?_
  refine v_icmp_ge F dX11_findWays_92 rfl (fun hq2 => ?_) (fun hq2 => ?_)
  · rw [if_pos hq2] at h
    obtain ⟨z, hu, ez⟩ := up_some h
    clear h
    subst ez
    have h := hu
    clear hu
    cases h
    cases (show _ = d' from K)
    exact v_vret F dX11_findWays_187
  · rw [if_neg hq2] at h
    refine v_iconst F dX11_findWays_95 ⟨by decide, by decide⟩ ?_
    refine v_istore_n F dX11_findWays_96 rfl (Nat.le_of_ble_eq_true rfl) (L' := [mA 1545, mI v1, mI 0, mU, mU]) rfl ?_
    exact fX11_findWays_97_ok F hX hp h K
theorem fX11_findWays_87_ok {w : Wd} {l : Launch} {G : Cx} {d m dd : Dt} {v1 : Int} {d' : Dt} {x : Dt} (F : Fx w G cX11_findWays RX11 5 none { frames := 1, cells := 0, slots := 0, locals := 22 }) (hX : WF dd m) (hp : PB m 1545 11) (h : fX11_findWays_87 d v1 = some x) (K : (fun q => q = d') x) : V w l WF G (QM w G WF none d' m 0 0) d m 0 0 87 [mA 1545, mI v1, mU, mU, mU] [] := by
  unfold fX11_findWays_87 at h
  exact loop_ok (P := fX11_findWays_87P w l G (QM w G WF none d' m 0 0) m) (fun s x hx h1 h2 => fX11_findWays_87f_ok F hX hp hx (by
    cases x with
    | inl s' => exact h1 s' rfl
    | inr z => cases h2 z rfl; exact K)) h
def fX11_findWays_12P (w : Wd) (l : Launch) (G : Cx) (Q : State → Prop) (m : Dt) (v1 : Int) (s : Dt × Int) : Prop := V w l WF G Q s.1 m 0 0 12 [mA 1545, mI v1, mI (s.2), mU, mU] []
theorem fX11_findWays_72_ok {w : Wd} {l : Launch} {G : Cx} {d m dd : Dt} {v1 v2 s1 s2 : Int} {d' : Dt} {x : ((Dt × Int) ⊕ ((Dt × Int) ⊕ Dt))} (F : Fx w G cX11_findWays RX11 5 none { frames := 1, cells := 0, slots := 0, locals := 22 }) (hX : WF dd m) (hp : PB m 1545 11) (h : fX11_findWays_72 d v1 v2 s1 s2 = some x) (K : (Sum.elim (fX11_findWays_12P w l G (QM w G WF none d' m 0 0) m v1) (Sum.elim (fX11_findWays_2P w l G (QM w G WF none d' m 0 0) m) (fun q => q = d'))) x) : V w l WF G (QM w G WF none d' m 0 0) d m 0 0 72 [mA 1545, mI v1, mI v2, mU, mU] [mI s2, mI s1, mA 1637] := by
  unfold fX11_findWays_72 at h
  obtain ⟨hi22, h⟩ := ck_some h
  obtain ⟨d23, ed23, h⟩ := sd_some h
  refine v_iast F dX11_findWays_72 (ar_X11_133 hX hp) hi22 ?_
  refine v_nD ed23 ?_
  obtain ⟨x24, ex24, h⟩ := lv_some h
  refine v_iincN F dX11_findWays_73 (Nat.le_of_ble_eq_true rfl) rfl ex24 (L' := [mA 1545, mI v1, mI x24, mU, mU]) rfl ?_
  refine v_goto F dX11_findWays_76 rfl ?_
  cases h
  exact K
theorem fX11_findWays_12f_ok {w : Wd} {l : Launch} {G : Cx} {m dd : Dt} {v1 : Int} {d' : Dt} {s : Dt × Int} {x : ((Dt × Int) ⊕ ((Dt × Int) ⊕ Dt))} (F : Fx w G cX11_findWays RX11 5 none { frames := 1, cells := 0, slots := 0, locals := 22 }) (hX : WF dd m) (hp : PB m 1545 11) (h : fX11_findWays_12f v1 s = some x) (K : (Sum.elim (fX11_findWays_12P w l G (QM w G WF none d' m 0 0) m v1) (Sum.elim (fX11_findWays_2P w l G (QM w G WF none d' m 0 0) m) (fun q => q = d'))) x) : V w l WF G (QM w G WF none d' m 0 0) s.1 m 0 0 12 [mA 1545, mI v1, mI (s.2), mU, mU] [] := by
  obtain ⟨d, v2⟩ := s
  unfold fX11_findWays_12f at h
  dsimp only at h
  refine v_iload_n F dX11_findWays_12 rfl rfl ?_
  refine v_aload_n F dX11_findWays_13 rfl rfl ?_
  refine gf_X11_755 F dX11_findWays_14 hp ?_
  refine v_icmp_ge F dX11_findWays_17 rfl (fun hq18 => ?_) (fun hq18 => ?_)
  · rw [if_pos hq18] at h
    obtain ⟨z, hu, ez⟩ := up_some h
    clear h
    subst ez
    have h := hu
    clear hu
    obtain ⟨x19, ex19, h⟩ := lv_some h
    refine v_iincN F dX11_findWays_79 (Nat.le_of_ble_eq_true rfl) rfl ex19 (L' := [mA 1545, mI x19, mI v2, mU, mU]) rfl ?_
    refine v_goto F dX11_findWays_82 rfl ?_
    cases h
    refine v_fgt (L' := [mA 1545, mI x19, mU, mU, mU]) ⟨Or.inl rfl, Or.inl rfl, Or.inr rfl, Or.inl rfl, Or.inl rfl, trivial⟩ ?_
    exact K
  · rw [if_neg hq18] at h
    refine v_aload_n F dX11_findWays_20 rfl rfl ?_
    refine gf_X11_1025 F dX11_findWays_21 hp (v := 1637) rfl ?_
    refine v_bipush F dX11_findWays_24 rfl ⟨by decide, by decide⟩ ?_
    refine v_iload_n F dX11_findWays_26 rfl rfl ?_
    refine v_imul F dX11_findWays_27 ?_
    refine v_iload_n F dX11_findWays_28 rfl rfl ?_
    refine v_iadd F dX11_findWays_29 ?_
    refine v_aload_n F dX11_findWays_30 rfl rfl ?_
    refine gf_X11_764 F dX11_findWays_31 hp (v := 1617) rfl ?_
    refine v_iload_n F dX11_findWays_34 rfl rfl ?_
    obtain ⟨hi20, h⟩ := ck_some h
    refine v_zald F dX11_findWays_35 (ar_X11_101 hX hp) hi20 ?_
    refine v_if_eq F dX11_findWays_36 rfl (fun hq21 => ?_) (fun hq21 => ?_)
    · rw [if_pos hq21] at h
      refine v_iconst F dX11_findWays_71 ⟨by decide, by decide⟩ ?_
      exact fX11_findWays_72_ok F hX hp h K
    · rw [if_neg hq21] at h
      refine v_aload_n F dX11_findWays_39 rfl rfl ?_
      refine gf_X11_764 F dX11_findWays_40 hp (v := 1617) rfl ?_
      refine v_iload_n F dX11_findWays_43 rfl rfl ?_
      obtain ⟨hi25, h⟩ := ck_some h
      refine v_zald F dX11_findWays_44 (ar_X11_101 hX hp) hi25 ?_
      refine v_if_eq F dX11_findWays_45 rfl (fun hq26 => ?_) (fun hq26 => ?_)
      · rw [if_pos hq26] at h
        refine v_iconst F dX11_findWays_71 ⟨by decide, by decide⟩ ?_
        exact fX11_findWays_72_ok F hX hp h K
      · rw [if_neg hq26] at h
        refine v_aload_n F dX11_findWays_48 rfl rfl ?_
        refine v_iload_n F dX11_findWays_49 rfl rfl ?_
        refine v_iload_n F dX11_findWays_50 rfl rfl ?_
        obtain ⟨x27, hc28, h⟩ := b1_some h
        refine v_callVv (c := 11) F dX11_findWays_51 cv_X11_1019 rfl (PB.ob hp hX (Nat.le_of_ble_eq_true rfl)) (Nat.le_of_ble_eq_true rfl) rfl (vm_X11_beats hp hc28) rfl (rOk.of rfl) ?_
        refine v_if_eq F dX11_findWays_54 rfl (fun hq29 => ?_) (fun hq29 => ?_)
        · rw [if_pos hq29] at h
          refine v_iconst F dX11_findWays_71 ⟨by decide, by decide⟩ ?_
          exact fX11_findWays_72_ok F hX hp h K
        · rw [if_neg hq29] at h
          refine v_aload_n F dX11_findWays_57 rfl rfl ?_
          refine gf_X11_998 F dX11_findWays_58 hp (v := 1636) rfl ?_
          refine v_bipush F dX11_findWays_61 rfl ⟨by decide, by decide⟩ ?_
          refine v_iload_n F dX11_findWays_63 rfl rfl ?_
          refine v_imul F dX11_findWays_64 ?_
          refine v_iload_n F dX11_findWays_65 rfl rfl ?_
          refine v_iadd F dX11_findWays_66 ?_
          obtain ⟨x30, ex30, h⟩ := lv_some h
          refine v_nI ex30 ?_
          obtain ⟨hi31, h⟩ := ck_some h
          refine v_iald F dX11_findWays_67 (ar_X11_132 hX hp) hi31 ?_
          refine v_goto F dX11_findWays_68 rfl ?_
          exact fX11_findWays_72_ok F hX hp h K
theorem fX11_findWays_12_ok {w : Wd} {l : Launch} {G : Cx} {d m dd : Dt} {v1 v2 : Int} {d' : Dt} {x : ((Dt × Int) ⊕ Dt)} (F : Fx w G cX11_findWays RX11 5 none { frames := 1, cells := 0, slots := 0, locals := 22 }) (hX : WF dd m) (hp : PB m 1545 11) (h : fX11_findWays_12 d v1 v2 = some x) (K : (Sum.elim (fX11_findWays_2P w l G (QM w G WF none d' m 0 0) m) (fun q => q = d')) x) : V w l WF G (QM w G WF none d' m 0 0) d m 0 0 12 [mA 1545, mI v1, mI v2, mU, mU] [] := by
  unfold fX11_findWays_12 at h
  exact loop_ok (P := fX11_findWays_12P w l G (QM w G WF none d' m 0 0) m v1) (fun s x hx h1 h2 => fX11_findWays_12f_ok F hX hp hx (by
    cases x with
    | inl s' => exact h1 s' rfl
    | inr z => cases h2 z rfl; exact K)) h
theorem fX11_findWays_2f_ok {w : Wd} {l : Launch} {G : Cx} {m dd : Dt} {d' : Dt} {s : Dt × Int} {x : ((Dt × Int) ⊕ Dt)} (F : Fx w G cX11_findWays RX11 5 none { frames := 1, cells := 0, slots := 0, locals := 22 }) (hX : WF dd m) (hp : PB m 1545 11) (h : fX11_findWays_2f s = some x) (K : (Sum.elim (fX11_findWays_2P w l G (QM w G WF none d' m 0 0) m) (fun q => q = d')) x) : V w l WF G (QM w G WF none d' m 0 0) s.1 m 0 0 2 [mA 1545, mI (s.2), mU, mU, mU] [] := by
  obtain ⟨d, v1⟩ := s
  unfold fX11_findWays_2f at h
  dsimp only at h
  refine v_iload_n F dX11_findWays_2 rfl rfl ?_
  refine v_aload_n F dX11_findWays_3 rfl rfl ?_
  refine gf_X11_755 F dX11_findWays_4 hp ?_
  refine v_icmp_ge F dX11_findWays_7 rfl (fun hq1 => ?_) (fun hq1 => ?_)
  · rw [if_pos hq1] at h
    obtain ⟨z, hu, ez⟩ := up_some h
    clear h
    subst ez
    have h := hu
    clear hu
    refine v_iconst F dX11_findWays_85 ⟨by decide, by decide⟩ ?_
    refine v_istore_n F dX11_findWays_86 rfl (Nat.le_of_ble_eq_true rfl) (L' := [mA 1545, mI 0, mU, mU, mU]) rfl ?_
    exact fX11_findWays_87_ok F hX hp h K
  · rw [if_neg hq1] at h
    refine v_iconst F dX11_findWays_10 ⟨by decide, by decide⟩ ?_
    refine v_istore_n F dX11_findWays_11 rfl (Nat.le_of_ble_eq_true rfl) (L' := [mA 1545, mI v1, mI 0, mU, mU]) rfl ?_
    exact fX11_findWays_12_ok F hX hp h K
theorem fX11_findWays_2_ok {w : Wd} {l : Launch} {G : Cx} {d m dd : Dt} {v1 : Int} {d' : Dt} {x : Dt} (F : Fx w G cX11_findWays RX11 5 none { frames := 1, cells := 0, slots := 0, locals := 22 }) (hX : WF dd m) (hp : PB m 1545 11) (h : fX11_findWays_2 d v1 = some x) (K : (fun q => q = d') x) : V w l WF G (QM w G WF none d' m 0 0) d m 0 0 2 [mA 1545, mI v1, mU, mU, mU] [] := by
  unfold fX11_findWays_2 at h
  exact loop_ok (P := fX11_findWays_2P w l G (QM w G WF none d' m 0 0) m) (fun s x hx h1 h2 => fX11_findWays_2f_ok F hX hp hx (by
    cases x with
    | inl s' => exact h1 s' rfl
    | inr z => cases h2 z rfl; exact K)) h
theorem vm_X11_findWays {w : Wd} {l : Launch} {d m : Dt} {d' : Dt} (hp : PB m 1545 11) (h : fX11_findWays d = some d') : VM w l WF yX11_findWays cX11_findWays 5 none 1 22 0 0 d m [mA 1545] none d' m := by
  obtain ⟨x, h, K⟩ : ∃ x, fX11_findWays d = some x ∧ x = d' := ⟨_, h, rfl⟩
  refine VM.of (L := [mA 1545, mU, mU, mU, mU]) (by decide +kernel) rfl (Nat.le_of_ble_eq_true rfl) fun G F _ => v_fact fun _ hX _ _ => ?_
  unfold fX11_findWays at h
  refine v_iconst F dX11_findWays_0 ⟨by decide, by decide⟩ ?_
  refine v_istore_n F dX11_findWays_1 rfl (Nat.le_of_ble_eq_true rfl) (L' := [mA 1545, mI 0, mU, mU, mU]) rfl ?_
  exact fX11_findWays_2_ok F hX hp h K
def fX11_covers_10P (w : Wd) (l : Launch) (G : Cx) (Q : State → Prop) (m : Dt) (d : Dt) (a1 a2 : Int) (s : Int × Int) : Prop := V w l WF G Q d m 0 0 10 [mA 1545, mI a1, mI a2, mI (s.1), mI (s.2)] []
theorem fX11_covers_10f_ok {w : Wd} {l : Launch} {G : Cx} {d m dd : Dt} {a1 a2 : Int} {r : Int} {s : Int × Int} {x : ((Int × Int) ⊕ Int)} (F : Fx w G cX11_covers RX11 5 (some .boolean) { frames := 1, cells := 0, slots := 0, locals := 22 }) (hX : WF dd m) (hp : PB m 1545 11) (h : fX11_covers_10f d a1 a2 s = some x) (K : (Sum.elim (fX11_covers_10P w l G (QM w G WF (some (mI r)) d m 0 0) m d a1 a2) (fun q => q = r)) x) : V w l WF G (QM w G WF (some (mI r)) d m 0 0) d m 0 0 10 [mA 1545, mI a1, mI a2, mI (s.1), mI (s.2)] [] := by
  obtain ⟨v3, v4⟩ := s
  unfold fX11_covers_10f at h
  dsimp only at h
  refine v_iload F dX11_covers_10 rfl ?_
  refine v_aload_n F dX11_covers_12 rfl rfl ?_
  refine gf_X11_755 F dX11_covers_13 hp ?_
  refine v_icmp_ge F dX11_covers_16 rfl (fun hq3 => ?_) (fun hq3 => ?_)
  · rw [if_pos hq3] at h
    obtain ⟨z, hu, ez⟩ := up_some h
    clear h
    subst ez
    have h := hu
    clear hu
    refine v_iload_n F dX11_covers_65 rfl rfl ?_
    obtain ⟨hb, h⟩ := ck_some h
    cases h
    cases (show _ = r from K)
    exact v_zret F hb dX11_covers_66
  · rw [if_neg hq3] at h
    refine v_iload_n F dX11_covers_19 rfl rfl ?_
    refine v_if_eq F dX11_covers_20 rfl (fun hq4 => ?_) (fun hq4 => ?_)
    · rw [if_pos hq4] at h
      obtain ⟨z, hu, ez⟩ := up_some h
      clear h
      subst ez
      have h := hu
      clear hu
      refine v_iload_n F dX11_covers_65 rfl rfl ?_
      obtain ⟨hb, h⟩ := ck_some h
      cases h
      cases (show _ = r from K)
      exact v_zret F hb dX11_covers_66
    · rw [if_neg hq4] at h
      refine v_aload_n F dX11_covers_23 rfl rfl ?_
      refine gf_X11_909 F dX11_covers_24 hp (v := 1630) rfl ?_
      refine v_iload F dX11_covers_27 rfl ?_
      obtain ⟨hi5, h⟩ := ck_some h
      refine v_iald F dX11_covers_29 (ar_X11_126 hX hp) hi5 ?_
      refine v_if_ne F dX11_covers_30 rfl (fun hq6 => ?_) (fun hq6 => ?_)
      · rw [if_neg hq6] at h
        refine v_iconst F dX11_covers_53 ⟨by decide, by decide⟩ ?_
        refine v_goto F dX11_covers_54 rfl ?_
        refine v_istore_n F dX11_covers_58 rfl (Nat.le_of_ble_eq_true rfl) (L' := [mA 1545, mI a1, mI a2, mI 1, mI v4]) rfl ?_
        obtain ⟨x7, ex7, h⟩ := lv_some h
        refine v_iincN F dX11_covers_59 (Nat.le_of_ble_eq_true rfl) rfl ex7 (L' := [mA 1545, mI a1, mI a2, mI 1, mI x7]) rfl ?_
        refine v_goto F dX11_covers_62 rfl ?_
        cases h
        exact K
      · rw [if_pos hq6] at h
        refine v_aload_n F dX11_covers_33 rfl rfl ?_
        refine v_iload_n F dX11_covers_34 rfl rfl ?_
        refine v_iload F dX11_covers_35 rfl ?_
        obtain ⟨x8, hc9, h⟩ := b1_some h
        refine v_callVv (c := 11) F dX11_covers_37 cv_X11_1019 rfl (PB.ob hp hX (Nat.le_of_ble_eq_true rfl)) (Nat.le_of_ble_eq_true rfl) rfl (vm_X11_beats hp hc9) rfl (rOk.of rfl) ?_
        refine v_if_eq F dX11_covers_40 rfl (fun hq10 => ?_) (fun hq10 => ?_)
        · rw [if_pos hq10] at h
          refine v_iconst F dX11_covers_53 ⟨by decide, by decide⟩ ?_
          refine v_goto F dX11_covers_54 rfl ?_
          refine v_istore_n F dX11_covers_58 rfl (Nat.le_of_ble_eq_true rfl) (L' := [mA 1545, mI a1, mI a2, mI 1, mI v4]) rfl ?_
          obtain ⟨x11, ex11, h⟩ := lv_some h
          refine v_iincN F dX11_covers_59 (Nat.le_of_ble_eq_true rfl) rfl ex11 (L' := [mA 1545, mI a1, mI a2, mI 1, mI x11]) rfl ?_
          refine v_goto F dX11_covers_62 rfl ?_
          cases h
          exact K
        · rw [if_neg hq10] at h
          refine v_aload_n F dX11_covers_43 rfl rfl ?_
          refine v_iload_n F dX11_covers_44 rfl rfl ?_
          refine v_iload F dX11_covers_45 rfl ?_
          obtain ⟨x12, hc13, h⟩ := b1_some h
          refine v_callVv (c := 11) F dX11_covers_47 cv_X11_1019 rfl (PB.ob hp hX (Nat.le_of_ble_eq_true rfl)) (Nat.le_of_ble_eq_true rfl) rfl (vm_X11_beats hp hc13) rfl (rOk.of rfl) ?_
          refine v_if_eq F dX11_covers_50 rfl (fun hq14 => ?_) (fun hq14 => ?_)
          · rw [if_pos hq14] at h
            refine v_iconst F dX11_covers_57 ⟨by decide, by decide⟩ ?_
            refine v_istore_n F dX11_covers_58 rfl (Nat.le_of_ble_eq_true rfl) (L' := [mA 1545, mI a1, mI a2, mI 0, mI v4]) rfl ?_
            obtain ⟨x15, ex15, h⟩ := lv_some h
            refine v_iincN F dX11_covers_59 (Nat.le_of_ble_eq_true rfl) rfl ex15 (L' := [mA 1545, mI a1, mI a2, mI 0, mI x15]) rfl ?_
            refine v_goto F dX11_covers_62 rfl ?_
            cases h
            exact K
          · rw [if_neg hq14] at h
            refine v_iconst F dX11_covers_53 ⟨by decide, by decide⟩ ?_
            refine v_goto F dX11_covers_54 rfl ?_
            refine v_istore_n F dX11_covers_58 rfl (Nat.le_of_ble_eq_true rfl) (L' := [mA 1545, mI a1, mI a2, mI 1, mI v4]) rfl ?_
            obtain ⟨x16, ex16, h⟩ := lv_some h
            refine v_iincN F dX11_covers_59 (Nat.le_of_ble_eq_true rfl) rfl ex16 (L' := [mA 1545, mI a1, mI a2, mI 1, mI x16]) rfl ?_
            refine v_goto F dX11_covers_62 rfl ?_
            cases h
            exact K
theorem fX11_covers_10_ok {w : Wd} {l : Launch} {G : Cx} {d m dd : Dt} {a1 a2 v3 v4 : Int} {r : Int} {x : Int} (F : Fx w G cX11_covers RX11 5 (some .boolean) { frames := 1, cells := 0, slots := 0, locals := 22 }) (hX : WF dd m) (hp : PB m 1545 11) (h : fX11_covers_10 d a1 a2 v3 v4 = some x) (K : (fun q => q = r) x) : V w l WF G (QM w G WF (some (mI r)) d m 0 0) d m 0 0 10 [mA 1545, mI a1, mI a2, mI v3, mI v4] [] := by
  unfold fX11_covers_10 at h
  exact loop_ok (P := fX11_covers_10P w l G (QM w G WF (some (mI r)) d m 0 0) m d a1 a2) (fun s x hx h1 h2 => fX11_covers_10f_ok F hX hp hx (by
    cases x with
    | inl s' => exact h1 s' rfl
    | inr z => cases h2 z rfl; exact K)) h
theorem vm_X11_covers {w : Wd} {l : Launch} {d m : Dt} {a1 a2 : Int} {r : Int} (hp : PB m 1545 11) (h : fX11_covers d a1 a2 = some r) : VM w l WF yX11_covers cX11_covers 5 (some .boolean) 1 22 0 0 d m [mA 1545, mI a1, mI a2] (some (mI r)) d m := by
  obtain ⟨x, h, K⟩ : ∃ x, fX11_covers d a1 a2 = some x ∧ x = r := ⟨_, h, rfl⟩
  refine VM.of (L := [mA 1545, mI a1, mI a2, mU, mU]) (by decide +kernel) rfl (Nat.le_of_ble_eq_true rfl) fun G F _ => v_fact fun _ hX _ _ => ?_
  unfold fX11_covers at h
  refine v_aload_n F dX11_covers_0 rfl rfl ?_
  refine v_iload_n F dX11_covers_1 rfl rfl ?_
  refine v_iload_n F dX11_covers_2 rfl rfl ?_
  obtain ⟨x1, hc2, h⟩ := b1_some h
  refine v_callVv (c := 11) F dX11_covers_3 cv_X11_1019 rfl (PB.ob hp hX (Nat.le_of_ble_eq_true rfl)) (Nat.le_of_ble_eq_true rfl) rfl (vm_X11_beats hp hc2) rfl (rOk.of rfl) ?_
  refine v_istore_n F dX11_covers_6 rfl (Nat.le_of_ble_eq_true rfl) (L' := [mA 1545, mI a1, mI a2, mI x1, mU]) rfl ?_
  refine v_iconst F dX11_covers_7 ⟨by decide, by decide⟩ ?_
  refine v_istore F dX11_covers_8 (Nat.le_of_ble_eq_true rfl) (L' := [mA 1545, mI a1, mI a2, mI x1, mI 0]) rfl ?_
  exact fX11_covers_10_ok F hX hp h K
def fX11_isUnder_2P (w : Wd) (l : Launch) (G : Cx) (Q : State → Prop) (m : Dt) (d : Dt) (a1 a2 : Int) (s : Int) : Prop := V w l WF G Q d m 0 0 2 [mA 1545, mI a1, mI a2, mI (s), mU] []
theorem fX11_isUnder_92_ok {w : Wd} {l : Launch} {G : Cx} {d m dd : Dt} {a1 a2 v3 s0 : Int} {r : Int} {x : ((Int) ⊕ Int)} (F : Fx w G cX11_isUnder RX11 5 (some .boolean) { frames := 2, cells := 0, slots := 0, locals := 46 }) (hX : WF dd m) (hp : PB m 1545 11) (h : fX11_isUnder_92 d a1 a2 v3 s0 = some x) (K : (Sum.elim (fX11_isUnder_2P w l G (QM w G WF (some (mI r)) d m 0 0) m d a1 a2) (fun q => q = r)) x) : V w l WF G (QM w G WF (some (mI r)) d m 0 0) d m 0 0 92 [mA 1545, mI a1, mI a2, mI v3, mU] [mI s0] := by
  unfold fX11_isUnder_92 at h
  refine v_istore F dX11_isUnder_92 (Nat.le_of_ble_eq_true rfl) (L' := [mA 1545, mI a1, mI a2, mI v3, mI s0]) rfl ?_
  refine v_iload F dX11_isUnder_94 rfl ?_
  refine v_if_eq F dX11_isUnder_96 rfl (fun hq10 => ?_) (fun hq10 => ?_)
  · rw [if_pos hq10] at h
    obtain ⟨x11, ex11, h⟩ := lv_some h
    refine v_iincN F dX11_isUnder_101 (Nat.le_of_ble_eq_true rfl) rfl ex11 (L' := [mA 1545, mI a1, mI a2, mI x11, mI s0]) rfl ?_
    refine v_goto F dX11_isUnder_104 rfl ?_
    cases h
    refine v_fgt (L' := [mA 1545, mI a1, mI a2, mI x11, mU]) ⟨Or.inl rfl, Or.inl rfl, Or.inl rfl, Or.inl rfl, Or.inr rfl, trivial⟩ ?_
    exact K
  · rw [if_neg hq10] at h
    obtain ⟨z, hu, ez⟩ := up_some h
    clear h
    subst ez
    have h := hu
    clear hu
    refine v_iconst F dX11_isUnder_99 ⟨by decide, by decide⟩ ?_
    cases h
    cases (show _ = r from K)
    exact v_zret F (Or.inr rfl) dX11_isUnder_100
theorem fX11_isUnder_2f_ok {w : Wd} {l : Launch} {G : Cx} {d m dd : Dt} {a1 a2 : Int} {r : Int} {s : Int} {x : ((Int) ⊕ Int)} (F : Fx w G cX11_isUnder RX11 5 (some .boolean) { frames := 2, cells := 0, slots := 0, locals := 46 }) (hX : WF dd m) (hp : PB m 1545 11) (h : fX11_isUnder_2f d a1 a2 s = some x) (K : (Sum.elim (fX11_isUnder_2P w l G (QM w G WF (some (mI r)) d m 0 0) m d a1 a2) (fun q => q = r)) x) : V w l WF G (QM w G WF (some (mI r)) d m 0 0) d m 0 0 2 [mA 1545, mI a1, mI a2, mI (s), mU] [] := by
  obtain ⟨v3, rfl⟩ : ∃ z, z = s := ⟨s, rfl⟩
  unfold fX11_isUnder_2f at h
  dsimp only at h
  refine v_iload_n F dX11_isUnder_2 rfl rfl ?_
  refine v_aload_n F dX11_isUnder_3 rfl rfl ?_
  refine gf_X11_755 F dX11_isUnder_4 hp ?_
  refine v_icmp_ge F dX11_isUnder_7 rfl (fun hq1 => ?_) (fun hq1 => ?_)
  · rw [if_pos hq1] at h
    obtain ⟨z, hu, ez⟩ := up_some h
    clear h
    subst ez
    have h := hu
    clear hu
    refine v_iconst F dX11_isUnder_107 ⟨by decide, by decide⟩ ?_
    cases h
    cases (show _ = r from K)
    exact v_zret F (Or.inl rfl) dX11_isUnder_108
  · rw [if_neg hq1] at h
    refine v_aload_n F dX11_isUnder_10 rfl rfl ?_
    refine gf_X11_909 F dX11_isUnder_11 hp (v := 1630) rfl ?_
    refine v_iload_n F dX11_isUnder_14 rfl rfl ?_
    obtain ⟨hi2, h⟩ := ck_some h
    refine v_iald F dX11_isUnder_15 (ar_X11_126 hX hp) hi2 ?_
    refine v_if_ne F dX11_isUnder_16 rfl (fun hq3 => ?_) (fun hq3 => ?_)
    · rw [if_neg hq3] at h
      obtain ⟨x4, ex4, h⟩ := lv_some h
      refine v_iincN F dX11_isUnder_101 (Nat.le_of_ble_eq_true rfl) rfl ex4 (L' := [mA 1545, mI a1, mI a2, mI x4, mU]) rfl ?_
      refine v_goto F dX11_isUnder_104 rfl ?_
      cases h
      exact K
    · rw [if_pos hq3] at h
      refine v_iload_n F dX11_isUnder_19 rfl rfl ?_
      refine v_iload_n F dX11_isUnder_20 rfl rfl ?_
      refine v_icmp_ne F dX11_isUnder_21 rfl (fun hq5 => ?_) (fun hq5 => ?_)
      · rw [if_neg hq5] at h
        refine v_iload_n F dX11_isUnder_27 rfl rfl ?_
        refine v_bipush F dX11_isUnder_28 rfl ⟨by decide, by decide⟩ ?_
        refine v_icmp_ne F dX11_isUnder_30 rfl (fun hq6 => ?_) (fun hq6 => ?_)
        · rw [if_neg hq6] at h
          refine v_iload_n F dX11_isUnder_47 rfl rfl ?_
          refine v_bipush F dX11_isUnder_48 rfl ⟨by decide, by decide⟩ ?_
          refine v_icmp_ne F dX11_isUnder_50 rfl (fun hq7 => ?_) (fun hq7 => ?_)
          · rw [if_neg hq7] at h
            refine v_aload_n F dX11_isUnder_86 rfl rfl ?_
            refine v_iload_n F dX11_isUnder_87 rfl rfl ?_
            refine v_iload_n F dX11_isUnder_88 rfl rfl ?_
            obtain ⟨x8, hc9, h⟩ := b1_some h
            refine v_callVv (c := 11) F dX11_isUnder_89 cv_X11_1028 rfl (PB.ob hp hX (Nat.le_of_ble_eq_true rfl)) (Nat.le_of_ble_eq_true rfl) rfl (vm_X11_covers hp hc9) rfl (rOk.of rfl) ?_
            exact fX11_isUnder_92_ok F hX hp h K
          · rw [if_pos hq7] at h
            refine v_aload_n F dX11_isUnder_53 rfl rfl ?_
            refine gf_X11_1025 F dX11_isUnder_54 hp (v := 1637) rfl ?_
            refine v_bipush F dX11_isUnder_57 rfl ⟨by decide, by decide⟩ ?_
            refine v_iload_n F dX11_isUnder_59 rfl rfl ?_
            refine v_imul F dX11_isUnder_60 ?_
            refine v_iload_n F dX11_isUnder_61 rfl rfl ?_
            refine v_iadd F dX11_isUnder_62 ?_
            obtain ⟨x12, ex12, h⟩ := lv_some h
            refine v_nI ex12 ?_
            obtain ⟨hi13, h⟩ := ck_some h
            refine v_iald F dX11_isUnder_63 (ar_X11_133 hX hp) hi13 ?_
            refine v_aload_n F dX11_isUnder_64 rfl rfl ?_
            refine gf_X11_1025 F dX11_isUnder_65 hp (v := 1637) rfl ?_
            refine v_bipush F dX11_isUnder_68 rfl ⟨by decide, by decide⟩ ?_
            refine v_iload_n F dX11_isUnder_70 rfl rfl ?_
            refine v_imul F dX11_isUnder_71 ?_
            refine v_iload_n F dX11_isUnder_72 rfl rfl ?_
            refine v_iadd F dX11_isUnder_73 ?_
            obtain ⟨x14, ex14, h⟩ := lv_some h
            refine v_nI ex14 ?_
            obtain ⟨hi15, h⟩ := ck_some h
            refine v_iald F dX11_isUnder_74 (ar_X11_133 hX hp) hi15 ?_
            refine v_icmp_le F dX11_isUnder_75 rfl (fun hq16 => ?_) (fun hq16 => ?_)
            · rw [if_pos hq16] at h
              refine v_iconst F dX11_isUnder_82 ⟨by decide, by decide⟩ ?_
              refine v_goto F dX11_isUnder_83 rfl ?_
              exact fX11_isUnder_92_ok F hX hp h K
            · rw [if_neg hq16] at h
              refine v_iconst F dX11_isUnder_78 ⟨by decide, by decide⟩ ?_
              refine v_goto F dX11_isUnder_79 rfl ?_
              exact fX11_isUnder_92_ok F hX hp h K
        · rw [if_pos hq6] at h
          refine v_aload_n F dX11_isUnder_33 rfl rfl ?_
          refine gf_X11_1022 F dX11_isUnder_34 hp (v := 1638) rfl ?_
          refine v_bipush F dX11_isUnder_37 rfl ⟨by decide, by decide⟩ ?_
          refine v_iload_n F dX11_isUnder_39 rfl rfl ?_
          refine v_imul F dX11_isUnder_40 ?_
          refine v_iload_n F dX11_isUnder_41 rfl rfl ?_
          refine v_iadd F dX11_isUnder_42 ?_
          obtain ⟨x17, ex17, h⟩ := lv_some h
          refine v_nI ex17 ?_
          obtain ⟨hi18, h⟩ := ck_some h
          refine v_zald F dX11_isUnder_43 (ar_X11_134 hX hp) hi18 ?_
          refine v_goto F dX11_isUnder_44 rfl ?_
          exact fX11_isUnder_92_ok F hX hp h K
      · rw [if_pos hq5] at h
        refine v_goto F dX11_isUnder_24 rfl ?_
        obtain ⟨x19, ex19, h⟩ := lv_some h
        refine v_iincN F dX11_isUnder_101 (Nat.le_of_ble_eq_true rfl) rfl ex19 (L' := [mA 1545, mI a1, mI a2, mI x19, mU]) rfl ?_
        refine v_goto F dX11_isUnder_104 rfl ?_
        cases h
        exact K
theorem fX11_isUnder_2_ok {w : Wd} {l : Launch} {G : Cx} {d m dd : Dt} {a1 a2 v3 : Int} {r : Int} {x : Int} (F : Fx w G cX11_isUnder RX11 5 (some .boolean) { frames := 2, cells := 0, slots := 0, locals := 46 }) (hX : WF dd m) (hp : PB m 1545 11) (h : fX11_isUnder_2 d a1 a2 v3 = some x) (K : (fun q => q = r) x) : V w l WF G (QM w G WF (some (mI r)) d m 0 0) d m 0 0 2 [mA 1545, mI a1, mI a2, mI v3, mU] [] := by
  unfold fX11_isUnder_2 at h
  exact loop_ok (P := fX11_isUnder_2P w l G (QM w G WF (some (mI r)) d m 0 0) m d a1 a2) (fun s x hx h1 h2 => fX11_isUnder_2f_ok F hX hp hx (by
    cases x with
    | inl s' => exact h1 s' rfl
    | inr z => cases h2 z rfl; exact K)) h
theorem vm_X11_isUnder {w : Wd} {l : Launch} {d m : Dt} {a1 a2 : Int} {r : Int} (hp : PB m 1545 11) (h : fX11_isUnder d a1 a2 = some r) : VM w l WF yX11_isUnder cX11_isUnder 5 (some .boolean) 2 46 0 0 d m [mA 1545, mI a1, mI a2] (some (mI r)) d m := by
  obtain ⟨x, h, K⟩ : ∃ x, fX11_isUnder d a1 a2 = some x ∧ x = r := ⟨_, h, rfl⟩
  refine VM.of (L := [mA 1545, mI a1, mI a2, mU, mU]) (by decide +kernel) rfl (Nat.le_of_ble_eq_true rfl) fun G F _ => v_fact fun _ hX _ _ => ?_
  unfold fX11_isUnder at h
  refine v_iconst F dX11_isUnder_0 ⟨by decide, by decide⟩ ?_
  refine v_istore_n F dX11_isUnder_1 rfl (Nat.le_of_ble_eq_true rfl) (L' := [mA 1545, mI a1, mI a2, mI 0, mU]) rfl ?_
  exact fX11_isUnder_2_ok F hX hp h K
def fX11_scoreOf_4P (w : Wd) (l : Launch) (G : Cx) (Q : State → Prop) (m : Dt) (d : Dt) (a1 : Int) (s : Int × Int) : Prop := V w l WF G Q d m 0 0 4 [mA 1545, mI a1, mI (s.1), mI (s.2)] []
theorem fX11_scoreOf_53_ok {w : Wd} {l : Launch} {G : Cx} {d m dd : Dt} {a1 v3 s0 s1 : Int} {r : Int} {x : ((Int × Int) ⊕ Int)} (F : Fx w G cX11_scoreOf RX11 4 (some .int) { frames := 1, cells := 0, slots := 0, locals := 22 }) (hX : WF dd m) (hp : PB m 1545 11) (h : fX11_scoreOf_53 d a1 v3 s0 s1 = some x) (K : (Sum.elim (fX11_scoreOf_4P w l G (QM w G WF (some (mI r)) d m 0 0) m d a1) (fun q => q = r)) x) : V w l WF G (QM w G WF (some (mI r)) d m 0 0) d m 0 0 53 [mA 1545, mI a1, mU, mI v3] [mI s1, mI s0] := by
  unfold fX11_scoreOf_53 at h
  refine v_iadd F dX11_scoreOf_53 ?_
  obtain ⟨x10, ex10, h⟩ := lv_some h
  refine v_nI ex10 ?_
  refine v_istore_n F dX11_scoreOf_54 rfl (Nat.le_of_ble_eq_true rfl) (L' := [mA 1545, mI a1, mI x10, mI v3]) rfl ?_
  obtain ⟨x11, ex11, h⟩ := lv_some h
  refine v_iincN F dX11_scoreOf_55 (Nat.le_of_ble_eq_true rfl) rfl ex11 (L' := [mA 1545, mI a1, mI x10, mI x11]) rfl ?_
  refine v_goto F dX11_scoreOf_58 rfl ?_
  cases h
  exact K
theorem fX11_scoreOf_4f_ok {w : Wd} {l : Launch} {G : Cx} {d m dd : Dt} {a1 : Int} {r : Int} {s : Int × Int} {x : ((Int × Int) ⊕ Int)} (F : Fx w G cX11_scoreOf RX11 4 (some .int) { frames := 1, cells := 0, slots := 0, locals := 22 }) (hX : WF dd m) (hp : PB m 1545 11) (h : fX11_scoreOf_4f d a1 s = some x) (K : (Sum.elim (fX11_scoreOf_4P w l G (QM w G WF (some (mI r)) d m 0 0) m d a1) (fun q => q = r)) x) : V w l WF G (QM w G WF (some (mI r)) d m 0 0) d m 0 0 4 [mA 1545, mI a1, mI (s.1), mI (s.2)] [] := by
  obtain ⟨v2, v3⟩ := s
  unfold fX11_scoreOf_4f at h
  dsimp only at h
  refine v_iload_n F dX11_scoreOf_4 rfl rfl ?_
  refine v_aload_n F dX11_scoreOf_5 rfl rfl ?_
  refine gf_X11_755 F dX11_scoreOf_6 hp ?_
  refine v_icmp_ge F dX11_scoreOf_9 rfl (fun hq1 => ?_) (fun hq1 => ?_)
  · rw [if_pos hq1] at h
    obtain ⟨z, hu, ez⟩ := up_some h
    clear h
    subst ez
    have h := hu
    clear hu
    refine v_iload_n F dX11_scoreOf_61 rfl rfl ?_
    cases h
    cases (show _ = r from K)
    exact v_iret F dX11_scoreOf_62
  · rw [if_neg hq1] at h
    refine v_iload_n F dX11_scoreOf_12 rfl rfl ?_
    refine v_aload_n F dX11_scoreOf_13 rfl rfl ?_
    refine gf_X11_909 F dX11_scoreOf_14 hp (v := 1630) rfl ?_
    refine v_iload_n F dX11_scoreOf_17 rfl rfl ?_
    obtain ⟨hi2, h⟩ := ck_some h
    refine v_iald F dX11_scoreOf_18 (ar_X11_126 hX hp) hi2 ?_
    refine v_if_eq F dX11_scoreOf_19 rfl (fun hq3 => ?_) (fun hq3 => ?_)
    · rw [if_pos hq3] at h
      refine v_aload_n F dX11_scoreOf_26 rfl rfl ?_
      refine v_iload_n F dX11_scoreOf_27 rfl rfl ?_
      refine v_iload_n F dX11_scoreOf_28 rfl rfl ?_
      obtain ⟨x4, hc5, h⟩ := b1_some h
      refine v_callVv (c := 11) F dX11_scoreOf_29 cv_X11_1019 rfl (PB.ob hp hX (Nat.le_of_ble_eq_true rfl)) (Nat.le_of_ble_eq_true rfl) rfl (vm_X11_beats hp hc5) rfl (rOk.of rfl) ?_
      refine v_if_eq F dX11_scoreOf_32 rfl (fun hq6 => ?_) (fun hq6 => ?_)
      · rw [if_pos hq6] at h
        refine v_aload_n F dX11_scoreOf_39 rfl rfl ?_
        refine v_iload_n F dX11_scoreOf_40 rfl rfl ?_
        refine v_iload_n F dX11_scoreOf_41 rfl rfl ?_
        obtain ⟨x7, hc8, h⟩ := b1_some h
        refine v_callVv (c := 11) F dX11_scoreOf_42 cv_X11_1019 rfl (PB.ob hp hX (Nat.le_of_ble_eq_true rfl)) (Nat.le_of_ble_eq_true rfl) rfl (vm_X11_beats hp hc8) rfl (rOk.of rfl) ?_
        refine v_if_eq F dX11_scoreOf_45 rfl (fun hq9 => ?_) (fun hq9 => ?_)
        · rw [if_pos hq9] at h
          refine v_iconst F dX11_scoreOf_52 ⟨by decide, by decide⟩ ?_
          refine v_fgt (L' := [mA 1545, mI a1, mU, mI v3]) ⟨Or.inl rfl, Or.inl rfl, Or.inr rfl, Or.inl rfl, trivial⟩ ?_
          exact fX11_scoreOf_53_ok F hX hp h K
        · rw [if_neg hq9] at h
          refine v_iconst F dX11_scoreOf_48 ⟨by decide, by decide⟩ ?_
          refine v_goto F dX11_scoreOf_49 rfl ?_
          refine v_fgt (L' := [mA 1545, mI a1, mU, mI v3]) ⟨Or.inl rfl, Or.inl rfl, Or.inr rfl, Or.inl rfl, trivial⟩ ?_
          exact fX11_scoreOf_53_ok F hX hp h K
      · rw [if_neg hq6] at h
        refine v_iconst F dX11_scoreOf_35 ⟨by decide, by decide⟩ ?_
        refine v_goto F dX11_scoreOf_36 rfl ?_
        refine v_fgt (L' := [mA 1545, mI a1, mU, mI v3]) ⟨Or.inl rfl, Or.inl rfl, Or.inr rfl, Or.inl rfl, trivial⟩ ?_
        exact fX11_scoreOf_53_ok F hX hp h K
    · rw [if_neg hq3] at h
      refine v_iconst F dX11_scoreOf_22 ⟨by decide, by decide⟩ ?_
      refine v_goto F dX11_scoreOf_23 rfl ?_
      refine v_fgt (L' := [mA 1545, mI a1, mU, mI v3]) ⟨Or.inl rfl, Or.inl rfl, Or.inr rfl, Or.inl rfl, trivial⟩ ?_
      exact fX11_scoreOf_53_ok F hX hp h K
theorem fX11_scoreOf_4_ok {w : Wd} {l : Launch} {G : Cx} {d m dd : Dt} {a1 v2 v3 : Int} {r : Int} {x : Int} (F : Fx w G cX11_scoreOf RX11 4 (some .int) { frames := 1, cells := 0, slots := 0, locals := 22 }) (hX : WF dd m) (hp : PB m 1545 11) (h : fX11_scoreOf_4 d a1 v2 v3 = some x) (K : (fun q => q = r) x) : V w l WF G (QM w G WF (some (mI r)) d m 0 0) d m 0 0 4 [mA 1545, mI a1, mI v2, mI v3] [] := by
  unfold fX11_scoreOf_4 at h
  exact loop_ok (P := fX11_scoreOf_4P w l G (QM w G WF (some (mI r)) d m 0 0) m d a1) (fun s x hx h1 h2 => fX11_scoreOf_4f_ok F hX hp hx (by
    cases x with
    | inl s' => exact h1 s' rfl
    | inr z => cases h2 z rfl; exact K)) h
theorem vm_X11_scoreOf {w : Wd} {l : Launch} {d m : Dt} {a1 : Int} {r : Int} (hp : PB m 1545 11) (h : fX11_scoreOf d a1 = some r) : VM w l WF yX11_scoreOf cX11_scoreOf 4 (some .int) 1 22 0 0 d m [mA 1545, mI a1] (some (mI r)) d m := by
  obtain ⟨x, h, K⟩ : ∃ x, fX11_scoreOf d a1 = some x ∧ x = r := ⟨_, h, rfl⟩
  refine VM.of (L := [mA 1545, mI a1, mU, mU]) (by decide +kernel) rfl (Nat.le_of_ble_eq_true rfl) fun G F _ => v_fact fun _ hX _ _ => ?_
  unfold fX11_scoreOf at h
  refine v_iconst F dX11_scoreOf_0 ⟨by decide, by decide⟩ ?_
  refine v_istore_n F dX11_scoreOf_1 rfl (Nat.le_of_ble_eq_true rfl) (L' := [mA 1545, mI a1, mI 0, mU]) rfl ?_
  refine v_iconst F dX11_scoreOf_2 ⟨by decide, by decide⟩ ?_
  refine v_istore_n F dX11_scoreOf_3 rfl (Nat.le_of_ble_eq_true rfl) (L' := [mA 1545, mI a1, mI 0, mI 0]) rfl ?_
  exact fX11_scoreOf_4_ok F hX hp h K
def fX11_nextBy_7P (w : Wd) (l : Launch) (G : Cx) (Q : State → Prop) (m : Dt) (d : Dt) (a1 : Int) (s : Int × Int × Int) : Prop := V w l WF G Q d m 0 0 7 [mA 1545, mI a1, mI (s.1), mI (s.2.1), mI (s.2.2), mU, mU] []
theorem fX11_nextBy_84_ok {w : Wd} {l : Launch} {G : Cx} {d m dd : Dt} {a1 v4 v5 v6 : Int} {r : Int} {x : ((Int × Int × Int) ⊕ Int)} (F : Fx w G cX11_nextBy RX11 7 (some .int) { frames := 3, cells := 0, slots := 0, locals := 70 }) (hX : WF dd m) (hp : PB m 1545 11) (h : fX11_nextBy_84 d a1 v4 v5 v6 = some x) (K : (Sum.elim (fX11_nextBy_7P w l G (QM w G WF (some (mI r)) d m 0 0) m d a1) (fun q => q = r)) x) : V w l WF G (QM w G WF (some (mI r)) d m 0 0) d m 0 0 84 [mA 1545, mI a1, mU, mU, mI v4, mI v5, mI v6] [] := by
  unfold fX11_nextBy_84 at h
  refine v_iload F dX11_nextBy_84 rfl ?_
  refine v_istore_n F dX11_nextBy_86 rfl (Nat.le_of_ble_eq_true rfl) (L' := [mA 1545, mI a1, mI v5, mU, mI v4, mI v5, mI v6]) rfl ?_
  refine v_iload F dX11_nextBy_87 rfl ?_
  refine v_istore_n F dX11_nextBy_89 rfl (Nat.le_of_ble_eq_true rfl) (L' := [mA 1545, mI a1, mI v5, mI v6, mI v4, mI v5, mI v6]) rfl ?_
  obtain ⟨x13, ex13, h⟩ := lv_some h
  refine v_iincN F dX11_nextBy_90 (Nat.le_of_ble_eq_true rfl) rfl ex13 (L' := [mA 1545, mI a1, mI v5, mI v6, mI x13, mI v5, mI v6]) rfl ?_
  refine v_goto F dX11_nextBy_93 rfl ?_
  cases h
  refine v_fgt (L' := [mA 1545, mI a1, mI v5, mI v6, mI x13, mU, mU]) ⟨Or.inl rfl, Or.inl rfl, Or.inl rfl, Or.inl rfl, Or.inl rfl, Or.inr rfl, Or.inr rfl, trivial⟩ ?_
  exact K
theorem fX11_nextBy_72_ok {w : Wd} {l : Launch} {G : Cx} {d m dd : Dt} {a1 v2 v3 v4 v5 s0 : Int} {r : Int} {x : ((Int × Int × Int) ⊕ Int)} (F : Fx w G cX11_nextBy RX11 7 (some .int) { frames := 3, cells := 0, slots := 0, locals := 70 }) (hX : WF dd m) (hp : PB m 1545 11) (h : fX11_nextBy_72 d a1 v2 v3 v4 v5 s0 = some x) (K : (Sum.elim (fX11_nextBy_7P w l G (QM w G WF (some (mI r)) d m 0 0) m d a1) (fun q => q = r)) x) : V w l WF G (QM w G WF (some (mI r)) d m 0 0) d m 0 0 72 [mA 1545, mI a1, mI v2, mI v3, mI v4, mI v5, mU] [mI s0] := by
  unfold fX11_nextBy_72 at h
  refine v_istore F dX11_nextBy_72 (Nat.le_of_ble_eq_true rfl) (L' := [mA 1545, mI a1, mI v2, mI v3, mI v4, mI v5, mI s0]) rfl ?_
  refine v_iload_n F dX11_nextBy_74 rfl rfl ?_
  refine v_if_lt F dX11_nextBy_75 rfl (fun hq12 => ?_) (fun hq12 => ?_)
  · rw [if_pos hq12] at h
    refine v_fgt (L' := [mA 1545, mI a1, mU, mU, mI v4, mI v5, mI s0]) ⟨Or.inl rfl, Or.inl rfl, Or.inr rfl, Or.inr rfl, Or.inl rfl, Or.inl rfl, Or.inl rfl, trivial⟩ ?_
    exact fX11_nextBy_84_ok F hX hp h K
  · rw [if_neg hq12] at h
    refine v_iload F dX11_nextBy_78 rfl ?_
    refine v_iload_n F dX11_nextBy_80 rfl rfl ?_
    refine v_icmp_le F dX11_nextBy_81 rfl (fun hq14 => ?_) (fun hq14 => ?_)
    · rw [if_pos hq14] at h
      obtain ⟨x15, ex15, h⟩ := lv_some h
      refine v_iincN F dX11_nextBy_90 (Nat.le_of_ble_eq_true rfl) rfl ex15 (L' := [mA 1545, mI a1, mI v2, mI v3, mI x15, mI v5, mI s0]) rfl ?_
      refine v_goto F dX11_nextBy_93 rfl ?_
      cases h
      refine v_fgt (L' := [mA 1545, mI a1, mI v2, mI v3, mI x15, mU, mU]) ⟨Or.inl rfl, Or.inl rfl, Or.inl rfl, Or.inl rfl, Or.inl rfl, Or.inr rfl, Or.inr rfl, trivial⟩ ?_
      exact K
    · rw [if_neg hq14] at h
      refine v_fgt (L' := [mA 1545, mI a1, mU, mU, mI v4, mI v5, mI s0]) ⟨Or.inl rfl, Or.inl rfl, Or.inr rfl, Or.inr rfl, Or.inl rfl, Or.inl rfl, Or.inl rfl, trivial⟩ ?_
      exact fX11_nextBy_84_ok F hX hp h K
theorem fX11_nextBy_7f_ok {w : Wd} {l : Launch} {G : Cx} {d m dd : Dt} {a1 : Int} {r : Int} {s : Int × Int × Int} {x : ((Int × Int × Int) ⊕ Int)} (F : Fx w G cX11_nextBy RX11 7 (some .int) { frames := 3, cells := 0, slots := 0, locals := 70 }) (hX : WF dd m) (hp : PB m 1545 11) (h : fX11_nextBy_7f d a1 s = some x) (K : (Sum.elim (fX11_nextBy_7P w l G (QM w G WF (some (mI r)) d m 0 0) m d a1) (fun q => q = r)) x) : V w l WF G (QM w G WF (some (mI r)) d m 0 0) d m 0 0 7 [mA 1545, mI a1, mI (s.1), mI (s.2.1), mI (s.2.2), mU, mU] [] := by
  obtain ⟨v2, v3, v4⟩ := s
  unfold fX11_nextBy_7f at h
  dsimp only at h
  refine v_iload F dX11_nextBy_7 rfl ?_
  refine v_aload_n F dX11_nextBy_9 rfl rfl ?_
  refine gf_X11_755 F dX11_nextBy_10 hp ?_
  refine v_icmp_ge F dX11_nextBy_13 rfl (fun hq1 => ?_) (fun hq1 => ?_)
  · rw [if_pos hq1] at h
    obtain ⟨z, hu, ez⟩ := up_some h
    clear h
    subst ez
    have h := hu
    clear hu
    refine v_iload_n F dX11_nextBy_96 rfl rfl ?_
    cases h
    cases (show _ = r from K)
    exact v_iret F dX11_nextBy_97
  · rw [if_neg hq1] at h
    refine v_aload_n F dX11_nextBy_16 rfl rfl ?_
    refine gf_X11_611 F dX11_nextBy_17 hp (v := 1592) rfl ?_
    refine v_bipush F dX11_nextBy_20 rfl ⟨by decide, by decide⟩ ?_
    refine v_aload_n F dX11_nextBy_22 rfl rfl ?_
    refine gf_X11_749 F dX11_nextBy_23 hp ?_
    refine v_imul F dX11_nextBy_26 ?_
    refine v_iload F dX11_nextBy_27 rfl ?_
    refine v_iadd F dX11_nextBy_29 ?_
    obtain ⟨x2, ex2, h⟩ := lv_some h
    refine v_nI ex2 ?_
    obtain ⟨hi3, h⟩ := ck_some h
    refine v_iald F dX11_nextBy_30 (ar_X11_68 hX hp) hi3 ?_
    obtain ⟨x4, ex4, h⟩ := lv_some h
    refine v_nI ex4 ?_
    refine v_istore F dX11_nextBy_31 (Nat.le_of_ble_eq_true rfl) (L' := [mA 1545, mI a1, mI v2, mI v3, mI v4, mI x4, mU]) rfl ?_
    refine v_aload_n F dX11_nextBy_33 rfl rfl ?_
    refine gf_X11_909 F dX11_nextBy_34 hp (v := 1630) rfl ?_
    refine v_iload F dX11_nextBy_37 rfl ?_
    obtain ⟨hi5, h⟩ := ck_some h
    refine v_iald F dX11_nextBy_39 (ar_X11_126 hX hp) hi5 ?_
    refine v_if_ne F dX11_nextBy_40 rfl (fun hq6 => ?_) (fun hq6 => ?_)
    · rw [if_neg hq6] at h
      obtain ⟨x7, ex7, h⟩ := lv_some h
      refine v_iincN F dX11_nextBy_90 (Nat.le_of_ble_eq_true rfl) rfl ex7 (L' := [mA 1545, mI a1, mI v2, mI v3, mI x7, mI x4, mU]) rfl ?_
      refine v_goto F dX11_nextBy_93 rfl ?_
      cases h
      refine v_fgt (L' := [mA 1545, mI a1, mI v2, mI v3, mI x7, mU, mU]) ⟨Or.inl rfl, Or.inl rfl, Or.inl rfl, Or.inl rfl, Or.inl rfl, Or.inr rfl, Or.inl rfl, trivial⟩ ?_
      exact K
    · rw [if_pos hq6] at h
      refine v_aload_n F dX11_nextBy_43 rfl rfl ?_
      refine v_iload F dX11_nextBy_44 rfl ?_
      refine v_iload_n F dX11_nextBy_46 rfl rfl ?_
      obtain ⟨x8, hc9, h⟩ := b1_some h
      refine v_callVv (c := 11) F dX11_nextBy_47 cv_X11_1013 rfl (PB.ob hp hX (Nat.le_of_ble_eq_true rfl)) (Nat.le_of_ble_eq_true rfl) rfl (vm_X11_isUnder hp hc9) rfl (rOk.of rfl) ?_
      refine v_if_eq F dX11_nextBy_50 rfl (fun hq10 => ?_) (fun hq10 => ?_)
      · rw [if_pos hq10] at h
        refine v_iload_n F dX11_nextBy_56 rfl rfl ?_
        refine v_bipush F dX11_nextBy_57 rfl ⟨by decide, by decide⟩ ?_
        refine v_icmp_ne F dX11_nextBy_59 rfl (fun hq11 => ?_) (fun hq11 => ?_)
        · rw [if_neg hq11] at h
          refine v_iconst F dX11_nextBy_71 ⟨by decide, by decide⟩ ?_
          exact fX11_nextBy_72_ok F hX hp h K
        · rw [if_pos hq11] at h
          refine v_aload_n F dX11_nextBy_62 rfl rfl ?_
          refine v_iload F dX11_nextBy_63 rfl ?_
          obtain ⟨x16, hc17, h⟩ := b1_some h
          refine v_callVv (c := 11) F dX11_nextBy_65 cv_X11_1016 rfl (PB.ob hp hX (Nat.le_of_ble_eq_true rfl)) (Nat.le_of_ble_eq_true rfl) rfl (vm_X11_scoreOf hp hc17) rfl (rOk.of rfl) ?_
          refine v_goto F dX11_nextBy_68 rfl ?_
          exact fX11_nextBy_72_ok F hX hp h K
      · rw [if_neg hq10] at h
        refine v_goto F dX11_nextBy_53 rfl ?_
        obtain ⟨x18, ex18, h⟩ := lv_some h
        refine v_iincN F dX11_nextBy_90 (Nat.le_of_ble_eq_true rfl) rfl ex18 (L' := [mA 1545, mI a1, mI v2, mI v3, mI x18, mI x4, mU]) rfl ?_
        refine v_goto F dX11_nextBy_93 rfl ?_
        cases h
        refine v_fgt (L' := [mA 1545, mI a1, mI v2, mI v3, mI x18, mU, mU]) ⟨Or.inl rfl, Or.inl rfl, Or.inl rfl, Or.inl rfl, Or.inl rfl, Or.inr rfl, Or.inl rfl, trivial⟩ ?_
        exact K
theorem fX11_nextBy_7_ok {w : Wd} {l : Launch} {G : Cx} {d m dd : Dt} {a1 v2 v3 v4 : Int} {r : Int} {x : Int} (F : Fx w G cX11_nextBy RX11 7 (some .int) { frames := 3, cells := 0, slots := 0, locals := 70 }) (hX : WF dd m) (hp : PB m 1545 11) (h : fX11_nextBy_7 d a1 v2 v3 v4 = some x) (K : (fun q => q = r) x) : V w l WF G (QM w G WF (some (mI r)) d m 0 0) d m 0 0 7 [mA 1545, mI a1, mI v2, mI v3, mI v4, mU, mU] [] := by
  unfold fX11_nextBy_7 at h
  exact loop_ok (P := fX11_nextBy_7P w l G (QM w G WF (some (mI r)) d m 0 0) m d a1) (fun s x hx h1 h2 => fX11_nextBy_7f_ok F hX hp hx (by
    cases x with
    | inl s' => exact h1 s' rfl
    | inr z => cases h2 z rfl; exact K)) h
theorem vm_X11_nextBy {w : Wd} {l : Launch} {d m : Dt} {a1 : Int} {r : Int} (hp : PB m 1545 11) (h : fX11_nextBy d a1 = some r) : VM w l WF yX11_nextBy cX11_nextBy 7 (some .int) 3 70 0 0 d m [mA 1545, mI a1] (some (mI r)) d m := by
  obtain ⟨x, h, K⟩ : ∃ x, fX11_nextBy d a1 = some x ∧ x = r := ⟨_, h, rfl⟩
  refine VM.of (L := [mA 1545, mI a1, mU, mU, mU, mU, mU]) (by decide +kernel) rfl (Nat.le_of_ble_eq_true rfl) fun G F _ => v_fact fun _ hX _ _ => ?_
  unfold fX11_nextBy at h
  refine v_iconst F dX11_nextBy_0 ⟨by decide, by decide⟩ ?_
  refine v_istore_n F dX11_nextBy_1 rfl (Nat.le_of_ble_eq_true rfl) (L' := [mA 1545, mI a1, mI (-1), mU, mU, mU, mU]) rfl ?_
  refine v_iconst F dX11_nextBy_2 ⟨by decide, by decide⟩ ?_
  refine v_istore_n F dX11_nextBy_3 rfl (Nat.le_of_ble_eq_true rfl) (L' := [mA 1545, mI a1, mI (-1), mI 0, mU, mU, mU]) rfl ?_
  refine v_iconst F dX11_nextBy_4 ⟨by decide, by decide⟩ ?_
  refine v_istore F dX11_nextBy_5 (Nat.le_of_ble_eq_true rfl) (L' := [mA 1545, mI a1, mI (-1), mI 0, mI 0, mU, mU]) rfl ?_
  exact fX11_nextBy_7_ok F hX hp h K
def fX11_countPairs_2P (w : Wd) (l : Launch) (G : Cx) (Q : State → Prop) (m : Dt) (a1 : Int) (s : Dt × Int) : Prop := V w l WF G Q s.1 m 0 0 2 [mA 1545, mI a1, mI (s.2), mU, mU, mU, mU, mU] []
def fX11_countPairs_261P (w : Wd) (l : Launch) (G : Cx) (Q : State → Prop) (m : Dt) (a1 : Int) (s : Dt) : Prop := V w l WF G Q s m 0 0 261 [mA 1545, mI a1, mU, mU, mU, mU, mU, mU] []
theorem fX11_countPairs_261f_ok {w : Wd} {l : Launch} {G : Cx} {m dd : Dt} {a1 : Int} {d' : Dt} {s : Dt} {x : ((Dt) ⊕ Dt)} (F : Fx w G cX11_countPairs RX11 8 none { frames := 4, cells := 0, slots := 0, locals := 96 }) (hX : WF dd m) (hp : PB m 1545 11) (h : fX11_countPairs_261f a1 s = some x) (K : (Sum.elim (fX11_countPairs_261P w l G (QM w G WF none d' m 0 0) m a1) (fun q => q = d')) x) : V w l WF G (QM w G WF none d' m 0 0) s m 0 0 261 [mA 1545, mI a1, mU, mU, mU, mU, mU, mU] [] := by
  obtain ⟨d, rfl⟩ : ∃ z, z = s := ⟨s, rfl⟩
  unfold fX11_countPairs_261f at h
  dsimp only at h
  refine v_aload_n F dX11_countPairs_261 rfl rfl ?_
  refine gf_X11_829 F dX11_countPairs_262 hp ?_
  refine v_aload_n F dX11_countPairs_265 rfl rfl ?_
  refine gf_X11_758 F dX11_countPairs_266 hp ?_
  refine v_icmp_ge F dX11_countPairs_269 rfl (fun hq7 => ?_) (fun hq7 => ?_)
  · rw [if_pos hq7] at h
    obtain ⟨z, hu, ez⟩ := up_some h
    clear h
    subst ez
    have h := hu
    clear hu
    cases h
    cases (show _ = d' from K)
    exact v_vret F dX11_countPairs_293
  · rw [if_neg hq7] at h
    refine v_aload_n F dX11_countPairs_272 rfl rfl ?_
    refine v_iload_n F dX11_countPairs_273 rfl rfl ?_
    obtain ⟨x8, hc9, h⟩ := b1_some h
    refine v_callVv (c := 11) F dX11_countPairs_274 cv_X11_1010 rfl (PB.ob hp hX (Nat.le_of_ble_eq_true rfl)) (Nat.le_of_ble_eq_true rfl) rfl (vm_X11_nextBy hp hc9) rfl (rOk.of rfl) ?_
    refine v_istore_n F dX11_countPairs_277 rfl (Nat.le_of_ble_eq_true rfl) (L' := [mA 1545, mI a1, mI x8, mU, mU, mU, mU, mU]) rfl ?_
    refine v_aload_n F dX11_countPairs_278 rfl rfl ?_
    refine gf_X11_909 F dX11_countPairs_279 hp (v := 1630) rfl ?_
    refine v_iload_n F dX11_countPairs_282 rfl rfl ?_
    refine v_iconst F dX11_countPairs_283 ⟨by decide, by decide⟩ ?_
    obtain ⟨hi10, h⟩ := ck_some h
    obtain ⟨d11, ed11, h⟩ := sd_some h
    refine v_iast F dX11_countPairs_284 (ar_X11_126 hX hp) hi10 ?_
    refine v_nD ed11 ?_
    refine v_aload_n F dX11_countPairs_285 rfl rfl ?_
    refine v_iload_n F dX11_countPairs_286 rfl rfl ?_
    obtain ⟨d12, hc13, h⟩ := bd_some h
    refine v_callV0 (c := 11) F dX11_countPairs_287 cv_X11_832 rfl (PB.ob hp hX (Nat.le_of_ble_eq_true rfl)) (Nat.le_of_ble_eq_true rfl) rfl (vm_X11_win hp hc13) rfl (rOk.of rfl) ?_
    refine v_goto F dX11_countPairs_290 rfl ?_
    cases h
    refine v_fgt (L' := [mA 1545, mI a1, mU, mU, mU, mU, mU, mU]) ⟨Or.inl rfl, Or.inl rfl, Or.inr rfl, Or.inl rfl, Or.inl rfl, Or.inl rfl, Or.inl rfl, Or.inl rfl, trivial⟩ ?_
    exact K
theorem fX11_countPairs_261_ok {w : Wd} {l : Launch} {G : Cx} {d m dd : Dt} {a1 : Int} {d' : Dt} {x : Dt} (F : Fx w G cX11_countPairs RX11 8 none { frames := 4, cells := 0, slots := 0, locals := 96 }) (hX : WF dd m) (hp : PB m 1545 11) (h : fX11_countPairs_261 d a1 = some x) (K : (fun q => q = d') x) : V w l WF G (QM w G WF none d' m 0 0) d m 0 0 261 [mA 1545, mI a1, mU, mU, mU, mU, mU, mU] [] := by
  unfold fX11_countPairs_261 at h
  exact loop_ok (P := fX11_countPairs_261P w l G (QM w G WF none d' m 0 0) m a1) (fun s x hx h1 h2 => fX11_countPairs_261f_ok F hX hp hx (by
    cases x with
    | inl s' => exact h1 s' rfl
    | inr z => cases h2 z rfl; exact K)) h
theorem fX11_countPairs_257_ok {w : Wd} {l : Launch} {G : Cx} {d m dd : Dt} {a1 : Int} {d' : Dt} {x : Dt} (F : Fx w G cX11_countPairs RX11 8 none { frames := 4, cells := 0, slots := 0, locals := 96 }) (hX : WF dd m) (hp : PB m 1545 11) (h : fX11_countPairs_257 d a1 = some x) (K : (fun q => q = d') x) : V w l WF G (QM w G WF none d' m 0 0) d m 0 0 257 [mA 1545, mI a1, mU, mU, mU, mU, mU, mU] [] := by
  unfold fX11_countPairs_257 at h
  refine v_aload_n F dX11_countPairs_257 rfl rfl ?_
  obtain ⟨d5, hc6, h⟩ := bd_some h
  refine v_callV0 (c := 11) F dX11_countPairs_258 cv_X11_929 rfl (PB.ob hp hX (Nat.le_of_ble_eq_true rfl)) (Nat.le_of_ble_eq_true rfl) rfl (vm_X11_allIn hp hc6) rfl (rOk.of rfl) ?_
  exact fX11_countPairs_261_ok F hX hp h K
theorem fX11_countPairs_247_ok {w : Wd} {l : Launch} {G : Cx} {d m dd : Dt} {a1 : Int} {d' : Dt} {x : Dt} (F : Fx w G cX11_countPairs RX11 8 none { frames := 4, cells := 0, slots := 0, locals := 96 }) (hX : WF dd m) (hp : PB m 1545 11) (h : fX11_countPairs_247 d a1 = some x) (K : (fun q => q = d') x) : V w l WF G (QM w G WF none d' m 0 0) d m 0 0 247 [mA 1545, mI a1, mU, mU, mU, mU, mU, mU] [] := by
  unfold fX11_countPairs_247 at h
  refine v_iload_n F dX11_countPairs_247 rfl rfl ?_
  refine v_bipush F dX11_countPairs_248 rfl ⟨by decide, by decide⟩ ?_
  refine v_icmp_ne F dX11_countPairs_250 rfl (fun hq4 => ?_) (fun hq4 => ?_)
  · rw [if_neg hq4] at h
    exact fX11_countPairs_257_ok F hX hp h K
  · rw [if_pos hq4] at h
    refine v_aload_n F dX11_countPairs_253 rfl rfl ?_
    obtain ⟨d14, hc15, h⟩ := bd_some h
    refine v_callV0 (c := 11) F dX11_countPairs_254 cv_X11_1007 rfl (PB.ob hp hX (Nat.le_of_ble_eq_true rfl)) (Nat.le_of_ble_eq_true rfl) rfl (vm_X11_findWays hp hc15) rfl (rOk.of rfl) ?_
    exact fX11_countPairs_257_ok F hX hp h K
def fX11_countPairs_151P (w : Wd) (l : Launch) (G : Cx) (Q : State → Prop) (m : Dt) (a1 : Int) (s : Dt × Int) : Prop := V w l WF G Q s.1 m 0 0 151 [mA 1545, mU, mI (s.2), mU, mU, mU, mU, mU] []
def fX11_countPairs_168P (w : Wd) (l : Launch) (G : Cx) (Q : State → Prop) (m : Dt) (a1 v2 : Int) (s : Dt × Int) : Prop := V w l WF G Q s.1 m 0 0 168 [mA 1545, mU, mI v2, mI (s.2), mU, mU, mU, mU] []
theorem fX11_countPairs_215_ok {w : Wd} {l : Launch} {G : Cx} {d m dd : Dt} {a1 v2 v3 s1 s2 : Int} {d' : Dt} {x : ((Dt × Int) ⊕ ((Dt × Int) ⊕ Dt))} (F : Fx w G cX11_countPairs RX11 8 none { frames := 4, cells := 0, slots := 0, locals := 96 }) (hX : WF dd m) (hp : PB m 1545 11) (h : fX11_countPairs_215 d a1 v2 v3 s1 s2 = some x) (K : (Sum.elim (fX11_countPairs_168P w l G (QM w G WF none d' m 0 0) m a1 v2) (Sum.elim (fX11_countPairs_151P w l G (QM w G WF none d' m 0 0) m a1) (fun q => q = d'))) x) : V w l WF G (QM w G WF none d' m 0 0) d m 0 0 215 [mA 1545, mU, mI v2, mI v3, mU, mU, mU, mU] [mL s2, mI s1, mA 1621] := by
  unfold fX11_countPairs_215 at h
  obtain ⟨hi30, h⟩ := ck_some h
  obtain ⟨d31, ed31, h⟩ := sd_some h
  refine v_last F dX11_countPairs_215 (ar_X11_108 hX hp) hi30 ?_
  refine v_nD ed31 ?_
  obtain ⟨x32, ex32, h⟩ := lv_some h
  refine v_iincN F dX11_countPairs_216 (Nat.le_of_ble_eq_true rfl) rfl ex32 (L' := [mA 1545, mU, mI v2, mI x32, mU, mU, mU, mU]) rfl ?_
  refine v_goto F dX11_countPairs_219 rfl ?_
  cases h
  exact K
theorem fX11_countPairs_168f_ok {w : Wd} {l : Launch} {G : Cx} {m dd : Dt} {a1 v2 : Int} {d' : Dt} {s : Dt × Int} {x : ((Dt × Int) ⊕ ((Dt × Int) ⊕ Dt))} (F : Fx w G cX11_countPairs RX11 8 none { frames := 4, cells := 0, slots := 0, locals := 96 }) (hX : WF dd m) (hp : PB m 1545 11) (h : fX11_countPairs_168f a1 v2 s = some x) (K : (Sum.elim (fX11_countPairs_168P w l G (QM w G WF none d' m 0 0) m a1 v2) (Sum.elim (fX11_countPairs_151P w l G (QM w G WF none d' m 0 0) m a1) (fun q => q = d'))) x) : V w l WF G (QM w G WF none d' m 0 0) s.1 m 0 0 168 [mA 1545, mU, mI v2, mI (s.2), mU, mU, mU, mU] [] := by
  obtain ⟨d, v3⟩ := s
  unfold fX11_countPairs_168f at h
  dsimp only at h
  refine v_iload_n F dX11_countPairs_168 rfl rfl ?_
  refine v_aload_n F dX11_countPairs_169 rfl rfl ?_
  refine gf_X11_755 F dX11_countPairs_170 hp ?_
  refine v_icmp_ge F dX11_countPairs_173 rfl (fun hq25 => ?_) (fun hq25 => ?_)
  · rw [if_pos hq25] at h
    obtain ⟨z, hu, ez⟩ := up_some h
    clear h
    subst ez
    have h := hu
    clear hu
    obtain ⟨x26, ex26, h⟩ := lv_some h
    refine v_iincN F dX11_countPairs_222 (Nat.le_of_ble_eq_true rfl) rfl ex26 (L' := [mA 1545, mU, mI x26, mI v3, mU, mU, mU, mU]) rfl ?_
    refine v_goto F dX11_countPairs_225 rfl ?_
    cases h
    refine v_fgt (L' := [mA 1545, mU, mI x26, mU, mU, mU, mU, mU]) ⟨Or.inl rfl, Or.inl rfl, Or.inl rfl, Or.inr rfl, Or.inl rfl, Or.inl rfl, Or.inl rfl, Or.inl rfl, trivial⟩ ?_
    exact K
  · rw [if_neg hq25] at h
    refine v_aload_n F dX11_countPairs_176 rfl rfl ?_
    refine gf_X11_801 F dX11_countPairs_177 hp (v := 1621) rfl ?_
    refine v_iload_n F dX11_countPairs_180 rfl rfl ?_
    refine v_aload_n F dX11_countPairs_181 rfl rfl ?_
    refine gf_X11_764 F dX11_countPairs_182 hp (v := 1617) rfl ?_
    refine v_iload_n F dX11_countPairs_185 rfl rfl ?_
    obtain ⟨hi27, h⟩ := ck_some h
    refine v_zald F dX11_countPairs_186 (ar_X11_101 hX hp) hi27 ?_
    refine v_if_eq F dX11_countPairs_187 rfl (fun hq28 => ?_) (fun hq28 => ?_)
    · rw [if_pos hq28] at h
      refine v_aload_n F dX11_countPairs_209 rfl rfl ?_
      refine gf_X11_801 F dX11_countPairs_210 hp (v := 1621) rfl ?_
      refine v_iload_n F dX11_countPairs_213 rfl rfl ?_
      obtain ⟨hi29, h⟩ := ck_some h
      refine v_lald F dX11_countPairs_214 (ar_X11_108 hX hp) hi29 ?_
      exact fX11_countPairs_215_ok F hX hp h K
    · rw [if_neg hq28] at h
      refine v_aload_n F dX11_countPairs_190 rfl rfl ?_
      refine gf_X11_801 F dX11_countPairs_191 hp (v := 1621) rfl ?_
      refine v_iload_n F dX11_countPairs_194 rfl rfl ?_
      obtain ⟨hi33, h⟩ := ck_some h
      refine v_lald F dX11_countPairs_195 (ar_X11_108 hX hp) hi33 ?_
      refine v_aload_n F dX11_countPairs_196 rfl rfl ?_
      refine v_iload_n F dX11_countPairs_197 rfl rfl ?_
      refine v_iload_n F dX11_countPairs_198 rfl rfl ?_
      obtain ⟨x34, hc35, h⟩ := b1_some h
      refine v_callVv (c := 11) F dX11_countPairs_199 cv_X11_1001 rfl (PB.ob hp hX (Nat.le_of_ble_eq_true rfl)) (Nat.le_of_ble_eq_true rfl) rfl (vm_X11_margin hp hc35) rfl (rOk.of rfl) ?_
      refine v_i2l F dX11_countPairs_202 ?_
      refine v_callSv F dX11_countPairs_203 cs_X11_996 rfl (vm_J9_min_2) rfl (rOk.of rfl) ?_
      refine v_goto F dX11_countPairs_206 rfl ?_
      exact fX11_countPairs_215_ok F hX hp h K
theorem fX11_countPairs_168_ok {w : Wd} {l : Launch} {G : Cx} {d m dd : Dt} {a1 v2 v3 : Int} {d' : Dt} {x : ((Dt × Int) ⊕ Dt)} (F : Fx w G cX11_countPairs RX11 8 none { frames := 4, cells := 0, slots := 0, locals := 96 }) (hX : WF dd m) (hp : PB m 1545 11) (h : fX11_countPairs_168 d a1 v2 v3 = some x) (K : (Sum.elim (fX11_countPairs_151P w l G (QM w G WF none d' m 0 0) m a1) (fun q => q = d')) x) : V w l WF G (QM w G WF none d' m 0 0) d m 0 0 168 [mA 1545, mU, mI v2, mI v3, mU, mU, mU, mU] [] := by
  unfold fX11_countPairs_168 at h
  exact loop_ok (P := fX11_countPairs_168P w l G (QM w G WF none d' m 0 0) m a1 v2) (fun s x hx h1 h2 => fX11_countPairs_168f_ok F hX hp hx (by
    cases x with
    | inl s' => exact h1 s' rfl
    | inr z => cases h2 z rfl; exact K)) h
theorem fX11_countPairs_151f_ok {w : Wd} {l : Launch} {G : Cx} {m dd : Dt} {a1 : Int} {d' : Dt} {s : Dt × Int} {x : ((Dt × Int) ⊕ Dt)} (F : Fx w G cX11_countPairs RX11 8 none { frames := 4, cells := 0, slots := 0, locals := 96 }) (hX : WF dd m) (hp : PB m 1545 11) (h : fX11_countPairs_151f a1 s = some x) (K : (Sum.elim (fX11_countPairs_151P w l G (QM w G WF none d' m 0 0) m a1) (fun q => q = d')) x) : V w l WF G (QM w G WF none d' m 0 0) s.1 m 0 0 151 [mA 1545, mU, mI (s.2), mU, mU, mU, mU, mU] [] := by
  obtain ⟨d, v2⟩ := s
  unfold fX11_countPairs_151f at h
  dsimp only at h
  refine v_iload_n F dX11_countPairs_151 rfl rfl ?_
  refine v_aload_n F dX11_countPairs_152 rfl rfl ?_
  refine gf_X11_755 F dX11_countPairs_153 hp ?_
  refine v_icmp_ge F dX11_countPairs_156 rfl (fun hq18 => ?_) (fun hq18 => ?_)
  · rw [if_pos hq18] at h
    obtain ⟨z, hu, ez⟩ := up_some h
    clear h
    subst ez
    have h := hu
    clear hu
    refine v_aload_n F dX11_countPairs_228 rfl rfl ?_
    obtain ⟨d19, hc20, h⟩ := bd_some h
    refine v_callV0 (c := 11) F dX11_countPairs_229 cv_X11_871 rfl (PB.ob hp hX (Nat.le_of_ble_eq_true rfl)) (Nat.le_of_ble_eq_true rfl) rfl (vm_X11_orderByVotes hp hc20) rfl (rOk.of rfl) ?_
    refine v_aload_n F dX11_countPairs_232 rfl rfl ?_
    obtain ⟨d21, hc22, h⟩ := bd_some h
    refine v_callV0 (c := 11) F dX11_countPairs_233 cv_X11_874 rfl (PB.ob hp hX (Nat.le_of_ble_eq_true rfl)) (Nat.le_of_ble_eq_true rfl) rfl (vm_X11_winFirst hp hc22) rfl (rOk.of rfl) ?_
    cases h
    cases (show _ = d' from K)
    exact v_vret F dX11_countPairs_236
  · rw [if_neg hq18] at h
    refine v_aload_n F dX11_countPairs_159 rfl rfl ?_
    refine gf_X11_801 F dX11_countPairs_160 hp (v := 1621) rfl ?_
    refine v_iload_n F dX11_countPairs_163 rfl rfl ?_
    refine v_lconst0 F dX11_countPairs_164 ?_
    obtain ⟨hi23, h⟩ := ck_some h
    obtain ⟨d24, ed24, h⟩ := sd_some h
    refine v_last F dX11_countPairs_165 (ar_X11_108 hX hp) hi23 ?_
    refine v_nD ed24 ?_
    refine v_iconst F dX11_countPairs_166 ⟨by decide, by decide⟩ ?_
    refine v_istore_n F dX11_countPairs_167 rfl (Nat.le_of_ble_eq_true rfl) (L' := [mA 1545, mU, mI v2, mI 0, mU, mU, mU, mU]) rfl ?_
    exact fX11_countPairs_168_ok F hX hp h K
theorem fX11_countPairs_151_ok {w : Wd} {l : Launch} {G : Cx} {d m dd : Dt} {a1 v2 : Int} {d' : Dt} {x : Dt} (F : Fx w G cX11_countPairs RX11 8 none { frames := 4, cells := 0, slots := 0, locals := 96 }) (hX : WF dd m) (hp : PB m 1545 11) (h : fX11_countPairs_151 d a1 v2 = some x) (K : (fun q => q = d') x) : V w l WF G (QM w G WF none d' m 0 0) d m 0 0 151 [mA 1545, mU, mI v2, mU, mU, mU, mU, mU] [] := by
  unfold fX11_countPairs_151 at h
  exact loop_ok (P := fX11_countPairs_151P w l G (QM w G WF none d' m 0 0) m a1) (fun s x hx h1 h2 => fX11_countPairs_151f_ok F hX hp hx (by
    cases x with
    | inl s' => exact h1 s' rfl
    | inr z => cases h2 z rfl; exact K)) h
def fX11_countPairs_12P (w : Wd) (l : Launch) (G : Cx) (Q : State → Prop) (m : Dt) (a1 v2 : Int) (s : Dt × Int) : Prop := V w l WF G Q s.1 m 0 0 12 [mA 1545, mI a1, mI v2, mI (s.2), mU, mU, mU, mU] []
def fX11_countPairs_26P (w : Wd) (l : Launch) (G : Cx) (Q : State → Prop) (m : Dt) (d : Dt) (a1 v2 v3 : Int) (s : Int × Int) : Prop := V w l WF G Q d m 0 0 26 [mA 1545, mI a1, mI v2, mI v3, mI (s.1), mI (s.2), mU, mU] []
theorem fX11_countPairs_105_ok {w : Wd} {l : Launch} {G : Cx} {d m dd : Dt} {a1 v2 v3 v4 : Int} {d' : Dt} {x : ((Dt × Int) ⊕ ((Dt × Int) ⊕ Dt))} (F : Fx w G cX11_countPairs RX11 8 none { frames := 4, cells := 0, slots := 0, locals := 96 }) (hX : WF dd m) (hp : PB m 1545 11) (h : fX11_countPairs_105 d a1 v2 v3 v4 = some x) (K : (Sum.elim (fX11_countPairs_12P w l G (QM w G WF none d' m 0 0) m a1 v2) (Sum.elim (fX11_countPairs_2P w l G (QM w G WF none d' m 0 0) m a1) (fun q => q = d'))) x) : V w l WF G (QM w G WF none d' m 0 0) d m 0 0 105 [mA 1545, mI a1, mI v2, mI v3, mI v4, mU, mU, mU] [] := by
  unfold fX11_countPairs_105 at h
  refine v_aload_n F dX11_countPairs_105 rfl rfl ?_
  refine gf_X11_998 F dX11_countPairs_106 hp (v := 1636) rfl ?_
  refine v_bipush F dX11_countPairs_109 rfl ⟨by decide, by decide⟩ ?_
  refine v_iload_n F dX11_countPairs_111 rfl rfl ?_
  refine v_imul F dX11_countPairs_112 ?_
  refine v_iload_n F dX11_countPairs_113 rfl rfl ?_
  refine v_iadd F dX11_countPairs_114 ?_
  refine v_iload F dX11_countPairs_115 rfl ?_
  obtain ⟨x41, ex41, h⟩ := lv_some h
  refine v_n2 ex41 ?_
  obtain ⟨hi42, h⟩ := ck_some h
  obtain ⟨d43, ed43, h⟩ := sd_some h
  refine v_iast F dX11_countPairs_117 (ar_X11_132 hX hp) hi42 ?_
  refine v_nD ed43 ?_
  refine v_aload_n F dX11_countPairs_118 rfl rfl ?_
  refine gf_X11_801 F dX11_countPairs_119 hp (v := 1621) rfl ?_
  refine v_iload_n F dX11_countPairs_122 rfl rfl ?_
  refine v_iload F dX11_countPairs_123 rfl ?_
  refine v_i2l F dX11_countPairs_125 ?_
  obtain ⟨hi44, h⟩ := ck_some h
  obtain ⟨d45, ed45, h⟩ := sd_some h
  refine v_last F dX11_countPairs_126 (ar_X11_108 hX hp) hi44 ?_
  refine v_nD ed45 ?_
  obtain ⟨x46, ex46, h⟩ := lv_some h
  refine v_iincN F dX11_countPairs_127 (Nat.le_of_ble_eq_true rfl) rfl ex46 (L' := [mA 1545, mI a1, mI v2, mI x46, mI v4, mU, mU, mU]) rfl ?_
  refine v_goto F dX11_countPairs_130 rfl ?_
  cases h
  refine v_fgt (L' := [mA 1545, mI a1, mI v2, mI x46, mU, mU, mU, mU]) ⟨Or.inl rfl, Or.inl rfl, Or.inl rfl, Or.inl rfl, Or.inr rfl, Or.inl rfl, Or.inl rfl, Or.inl rfl, trivial⟩ ?_
  exact K
theorem fX11_countPairs_96_ok {w : Wd} {l : Launch} {G : Cx} {d m dd : Dt} {a1 v2 v3 v5 s0 s1 : Int} {d' : Dt} {x : ((Int × Int) ⊕ ((Dt × Int) ⊕ ((Dt × Int) ⊕ Dt)))} (F : Fx w G cX11_countPairs RX11 8 none { frames := 4, cells := 0, slots := 0, locals := 96 }) (hX : WF dd m) (hp : PB m 1545 11) (h : fX11_countPairs_96 d a1 v2 v3 v5 s0 s1 = some x) (K : (Sum.elim (fX11_countPairs_26P w l G (QM w G WF none d' m 0 0) m d a1 v2 v3) (Sum.elim (fX11_countPairs_12P w l G (QM w G WF none d' m 0 0) m a1 v2) (Sum.elim (fX11_countPairs_2P w l G (QM w G WF none d' m 0 0) m a1) (fun q => q = d')))) x) : V w l WF G (QM w G WF none d' m 0 0) d m 0 0 96 [mA 1545, mI a1, mI v2, mI v3, mU, mI v5, mU, mU] [mI s1, mI s0] := by
  unfold fX11_countPairs_96 at h
  refine v_iadd F dX11_countPairs_96 ?_
  obtain ⟨x56, ex56, h⟩ := lv_some h
  refine v_nI ex56 ?_
  refine v_istore F dX11_countPairs_97 (Nat.le_of_ble_eq_true rfl) (L' := [mA 1545, mI a1, mI v2, mI v3, mI x56, mI v5, mU, mU]) rfl ?_
  obtain ⟨x57, ex57, h⟩ := lv_some h
  refine v_iincN F dX11_countPairs_99 (Nat.le_of_ble_eq_true rfl) rfl ex57 (L' := [mA 1545, mI a1, mI v2, mI v3, mI x56, mI x57, mU, mU]) rfl ?_
  refine v_goto F dX11_countPairs_102 rfl ?_
  cases h
  exact K
theorem fX11_countPairs_26f_ok {w : Wd} {l : Launch} {G : Cx} {d m dd : Dt} {a1 v2 v3 : Int} {d' : Dt} {s : Int × Int} {x : ((Int × Int) ⊕ ((Dt × Int) ⊕ ((Dt × Int) ⊕ Dt)))} (F : Fx w G cX11_countPairs RX11 8 none { frames := 4, cells := 0, slots := 0, locals := 96 }) (hX : WF dd m) (hp : PB m 1545 11) (h : fX11_countPairs_26f d a1 v2 v3 s = some x) (K : (Sum.elim (fX11_countPairs_26P w l G (QM w G WF none d' m 0 0) m d a1 v2 v3) (Sum.elim (fX11_countPairs_12P w l G (QM w G WF none d' m 0 0) m a1 v2) (Sum.elim (fX11_countPairs_2P w l G (QM w G WF none d' m 0 0) m a1) (fun q => q = d')))) x) : V w l WF G (QM w G WF none d' m 0 0) d m 0 0 26 [mA 1545, mI a1, mI v2, mI v3, mI (s.1), mI (s.2), mU, mU] [] := by
  obtain ⟨v4, v5⟩ := s
  unfold fX11_countPairs_26f at h
  dsimp only at h
  refine v_iload F dX11_countPairs_26 rfl ?_
  refine v_aload_n F dX11_countPairs_28 rfl rfl ?_
  refine gf_X11_767 F dX11_countPairs_29 hp ?_
  refine v_icmp_ge F dX11_countPairs_32 rfl (fun hq40 => ?_) (fun hq40 => ?_)
  · rw [if_pos hq40] at h
    obtain ⟨z, hu, ez⟩ := up_some h
    clear h
    subst ez
    have h := hu
    clear hu
    refine v_fgt (L' := [mA 1545, mI a1, mI v2, mI v3, mI v4, mU, mU, mU]) ⟨Or.inl rfl, Or.inl rfl, Or.inl rfl, Or.inl rfl, Or.inl rfl, Or.inr rfl, Or.inl rfl, Or.inl rfl, trivial⟩ ?_
    exact fX11_countPairs_105_ok F hX hp h K
  · rw [if_neg hq40] at h
    refine v_aload_n F dX11_countPairs_35 rfl rfl ?_
    refine gf_X11_764 F dX11_countPairs_36 hp (v := 1617) rfl ?_
    refine v_iload_n F dX11_countPairs_39 rfl rfl ?_
    obtain ⟨hi47, h⟩ := ck_some h
    refine v_zald F dX11_countPairs_40 (ar_X11_101 hX hp) hi47 ?_
    refine v_if_eq F dX11_countPairs_41 rfl (fun hq48 => ?_) (fun hq48 => ?_)
    · rw [if_pos hq48] at h
      obtain ⟨z, hu, ez⟩ := up_some h
      clear h
      subst ez
      have h := hu
      clear hu
      refine v_fgt (L' := [mA 1545, mI a1, mI v2, mI v3, mI v4, mU, mU, mU]) ⟨Or.inl rfl, Or.inl rfl, Or.inl rfl, Or.inl rfl, Or.inl rfl, Or.inr rfl, Or.inl rfl, Or.inl rfl, trivial⟩ ?_
      exact fX11_countPairs_105_ok F hX hp h K
    · rw [if_neg hq48] at h
      refine v_aload_n F dX11_countPairs_44 rfl rfl ?_
      refine gf_X11_780 F dX11_countPairs_45 hp (v := 1618) rfl ?_
      refine v_bipush F dX11_countPairs_48 rfl ⟨by decide, by decide⟩ ?_
      refine v_iload F dX11_countPairs_50 rfl ?_
      refine v_imul F dX11_countPairs_52 ?_
      refine v_iload_n F dX11_countPairs_53 rfl rfl ?_
      refine v_iadd F dX11_countPairs_54 ?_
      obtain ⟨x49, ex49, h⟩ := lv_some h
      refine v_nI ex49 ?_
      obtain ⟨hi50, h⟩ := ck_some h
      refine v_iald F dX11_countPairs_55 (ar_X11_105 hX hp) hi50 ?_
      obtain ⟨x51, ex51, h⟩ := lv_some h
      refine v_nI ex51 ?_
      refine v_istore F dX11_countPairs_56 (Nat.le_of_ble_eq_true rfl) (L' := [mA 1545, mI a1, mI v2, mI v3, mI v4, mI v5, mI x51, mU]) rfl ?_
      refine v_aload_n F dX11_countPairs_58 rfl rfl ?_
      refine gf_X11_780 F dX11_countPairs_59 hp (v := 1618) rfl ?_
      refine v_bipush F dX11_countPairs_62 rfl ⟨by decide, by decide⟩ ?_
      refine v_iload F dX11_countPairs_64 rfl ?_
      refine v_imul F dX11_countPairs_66 ?_
      refine v_iload_n F dX11_countPairs_67 rfl rfl ?_
      refine v_iadd F dX11_countPairs_68 ?_
      obtain ⟨x52, ex52, h⟩ := lv_some h
      refine v_nI ex52 ?_
      obtain ⟨hi53, h⟩ := ck_some h
      refine v_iald F dX11_countPairs_69 (ar_X11_105 hX hp) hi53 ?_
      obtain ⟨x54, ex54, h⟩ := lv_some h
      refine v_nI ex54 ?_
      refine v_istore F dX11_countPairs_70 (Nat.le_of_ble_eq_true rfl) (L' := [mA 1545, mI a1, mI v2, mI v3, mI v4, mI v5, mI x51, mI x54]) rfl ?_
      refine v_iload F dX11_countPairs_72 rfl ?_
      refine v_iload F dX11_countPairs_74 rfl ?_
      refine v_if_le F dX11_countPairs_76 rfl (fun hq55 => ?_) (fun hq55 => ?_)
      · rw [if_pos hq55] at h
        refine v_iconst F dX11_countPairs_95 ⟨by decide, by decide⟩ ?_
        refine v_fgt (L' := [mA 1545, mI a1, mI v2, mI v3, mU, mI v5, mU, mU]) ⟨Or.inl rfl, Or.inl rfl, Or.inl rfl, Or.inl rfl, Or.inr rfl, Or.inl rfl, Or.inr rfl, Or.inr rfl, trivial⟩ ?_
        exact fX11_countPairs_96_ok F hX hp h K
      · rw [if_neg hq55] at h
        refine v_iload F dX11_countPairs_79 rfl ?_
        refine v_if_eq F dX11_countPairs_81 rfl (fun hq58 => ?_) (fun hq58 => ?_)
        · rw [if_pos hq58] at h
          refine v_iconst F dX11_countPairs_91 ⟨by decide, by decide⟩ ?_
          refine v_goto F dX11_countPairs_92 rfl ?_
          refine v_fgt (L' := [mA 1545, mI a1, mI v2, mI v3, mU, mI v5, mU, mU]) ⟨Or.inl rfl, Or.inl rfl, Or.inl rfl, Or.inl rfl, Or.inr rfl, Or.inl rfl, Or.inr rfl, Or.inr rfl, trivial⟩ ?_
          exact fX11_countPairs_96_ok F hX hp h K
        · rw [if_neg hq58] at h
          refine v_iload F dX11_countPairs_84 rfl ?_
          refine v_iload F dX11_countPairs_86 rfl ?_
          refine v_icmp_ge F dX11_countPairs_88 rfl (fun hq59 => ?_) (fun hq59 => ?_)
          · rw [if_pos hq59] at h
            refine v_iconst F dX11_countPairs_95 ⟨by decide, by decide⟩ ?_
            refine v_fgt (L' := [mA 1545, mI a1, mI v2, mI v3, mU, mI v5, mU, mU]) ⟨Or.inl rfl, Or.inl rfl, Or.inl rfl, Or.inl rfl, Or.inr rfl, Or.inl rfl, Or.inr rfl, Or.inr rfl, trivial⟩ ?_
            exact fX11_countPairs_96_ok F hX hp h K
          · rw [if_neg hq59] at h
            refine v_iconst F dX11_countPairs_91 ⟨by decide, by decide⟩ ?_
            refine v_goto F dX11_countPairs_92 rfl ?_
            refine v_fgt (L' := [mA 1545, mI a1, mI v2, mI v3, mU, mI v5, mU, mU]) ⟨Or.inl rfl, Or.inl rfl, Or.inl rfl, Or.inl rfl, Or.inr rfl, Or.inl rfl, Or.inr rfl, Or.inr rfl, trivial⟩ ?_
            exact fX11_countPairs_96_ok F hX hp h K
theorem fX11_countPairs_26_ok {w : Wd} {l : Launch} {G : Cx} {d m dd : Dt} {a1 v2 v3 v4 v5 : Int} {d' : Dt} {x : ((Dt × Int) ⊕ ((Dt × Int) ⊕ Dt))} (F : Fx w G cX11_countPairs RX11 8 none { frames := 4, cells := 0, slots := 0, locals := 96 }) (hX : WF dd m) (hp : PB m 1545 11) (h : fX11_countPairs_26 d a1 v2 v3 v4 v5 = some x) (K : (Sum.elim (fX11_countPairs_12P w l G (QM w G WF none d' m 0 0) m a1 v2) (Sum.elim (fX11_countPairs_2P w l G (QM w G WF none d' m 0 0) m a1) (fun q => q = d'))) x) : V w l WF G (QM w G WF none d' m 0 0) d m 0 0 26 [mA 1545, mI a1, mI v2, mI v3, mI v4, mI v5, mU, mU] [] := by
  unfold fX11_countPairs_26 at h
  exact loop_ok (P := fX11_countPairs_26P w l G (QM w G WF none d' m 0 0) m d a1 v2 v3) (fun s x hx h1 h2 => fX11_countPairs_26f_ok F hX hp hx (by
    cases x with
    | inl s' => exact h1 s' rfl
    | inr z => cases h2 z rfl; exact K)) h
theorem fX11_countPairs_12f_ok {w : Wd} {l : Launch} {G : Cx} {m dd : Dt} {a1 v2 : Int} {d' : Dt} {s : Dt × Int} {x : ((Dt × Int) ⊕ ((Dt × Int) ⊕ Dt))} (F : Fx w G cX11_countPairs RX11 8 none { frames := 4, cells := 0, slots := 0, locals := 96 }) (hX : WF dd m) (hp : PB m 1545 11) (h : fX11_countPairs_12f a1 v2 s = some x) (K : (Sum.elim (fX11_countPairs_12P w l G (QM w G WF none d' m 0 0) m a1 v2) (Sum.elim (fX11_countPairs_2P w l G (QM w G WF none d' m 0 0) m a1) (fun q => q = d'))) x) : V w l WF G (QM w G WF none d' m 0 0) s.1 m 0 0 12 [mA 1545, mI a1, mI v2, mI (s.2), mU, mU, mU, mU] [] := by
  obtain ⟨d, v3⟩ := s
  unfold fX11_countPairs_12f at h
  dsimp only at h
  refine v_iload_n F dX11_countPairs_12 rfl rfl ?_
  refine v_aload_n F dX11_countPairs_13 rfl rfl ?_
  refine gf_X11_755 F dX11_countPairs_14 hp ?_
  refine v_icmp_ge F dX11_countPairs_17 rfl (fun hq36 => ?_) (fun hq36 => ?_)
  · rw [if_pos hq36] at h
    obtain ⟨z, hu, ez⟩ := up_some h
    clear h
    subst ez
    have h := hu
    clear hu
    refine v_aload_n F dX11_countPairs_133 rfl rfl ?_
    obtain ⟨d37, hc38, h⟩ := bd_some h
    refine v_callV0 (c := 11) F dX11_countPairs_134 cv_X11_868 rfl (PB.ob hp hX (Nat.le_of_ble_eq_true rfl)) (Nat.le_of_ble_eq_true rfl) rfl (vm_X11_tell hp hc38) rfl (rOk.of rfl) ?_
    obtain ⟨x39, ex39, h⟩ := lv_some h
    refine v_iincN F dX11_countPairs_137 (Nat.le_of_ble_eq_true rfl) rfl ex39 (L' := [mA 1545, mI a1, mI x39, mI v3, mU, mU, mU, mU]) rfl ?_
    refine v_goto F dX11_countPairs_140 rfl ?_
    cases h
    refine v_fgt (L' := [mA 1545, mI a1, mI x39, mU, mU, mU, mU, mU]) ⟨Or.inl rfl, Or.inl rfl, Or.inl rfl, Or.inr rfl, Or.inl rfl, Or.inl rfl, Or.inl rfl, Or.inl rfl, trivial⟩ ?_
    exact K
  · rw [if_neg hq36] at h
    refine v_iconst F dX11_countPairs_20 ⟨by decide, by decide⟩ ?_
    refine v_istore F dX11_countPairs_21 (Nat.le_of_ble_eq_true rfl) (L' := [mA 1545, mI a1, mI v2, mI v3, mI 0, mU, mU, mU]) rfl ?_
    refine v_iconst F dX11_countPairs_23 ⟨by decide, by decide⟩ ?_
    refine v_istore F dX11_countPairs_24 (Nat.le_of_ble_eq_true rfl) (L' := [mA 1545, mI a1, mI v2, mI v3, mI 0, mI 0, mU, mU]) rfl ?_
    exact fX11_countPairs_26_ok F hX hp h K
theorem fX11_countPairs_12_ok {w : Wd} {l : Launch} {G : Cx} {d m dd : Dt} {a1 v2 v3 : Int} {d' : Dt} {x : ((Dt × Int) ⊕ Dt)} (F : Fx w G cX11_countPairs RX11 8 none { frames := 4, cells := 0, slots := 0, locals := 96 }) (hX : WF dd m) (hp : PB m 1545 11) (h : fX11_countPairs_12 d a1 v2 v3 = some x) (K : (Sum.elim (fX11_countPairs_2P w l G (QM w G WF none d' m 0 0) m a1) (fun q => q = d')) x) : V w l WF G (QM w G WF none d' m 0 0) d m 0 0 12 [mA 1545, mI a1, mI v2, mI v3, mU, mU, mU, mU] [] := by
  unfold fX11_countPairs_12 at h
  exact loop_ok (P := fX11_countPairs_12P w l G (QM w G WF none d' m 0 0) m a1 v2) (fun s x hx h1 h2 => fX11_countPairs_12f_ok F hX hp hx (by
    cases x with
    | inl s' => exact h1 s' rfl
    | inr z => cases h2 z rfl; exact K)) h
theorem fX11_countPairs_2f_ok {w : Wd} {l : Launch} {G : Cx} {m dd : Dt} {a1 : Int} {d' : Dt} {s : Dt × Int} {x : ((Dt × Int) ⊕ Dt)} (F : Fx w G cX11_countPairs RX11 8 none { frames := 4, cells := 0, slots := 0, locals := 96 }) (hX : WF dd m) (hp : PB m 1545 11) (h : fX11_countPairs_2f a1 s = some x) (K : (Sum.elim (fX11_countPairs_2P w l G (QM w G WF none d' m 0 0) m a1) (fun q => q = d')) x) : V w l WF G (QM w G WF none d' m 0 0) s.1 m 0 0 2 [mA 1545, mI a1, mI (s.2), mU, mU, mU, mU, mU] [] := by
  obtain ⟨d, v2⟩ := s
  unfold fX11_countPairs_2f at h
  dsimp only at h
  refine v_iload_n F dX11_countPairs_2 rfl rfl ?_
  refine v_aload_n F dX11_countPairs_3 rfl rfl ?_
  refine gf_X11_755 F dX11_countPairs_4 hp ?_
  refine v_icmp_ge F dX11_countPairs_7 rfl (fun hq1 => ?_) (fun hq1 => ?_)
  · rw [if_pos hq1] at h
    obtain ⟨z, hu, ez⟩ := up_some h
    clear h
    subst ez
    have h := hu
    clear hu
    refine v_iload_n F dX11_countPairs_143 rfl rfl ?_
    refine v_bipush F dX11_countPairs_144 rfl ⟨by decide, by decide⟩ ?_
    refine v_icmp_ne F dX11_countPairs_146 rfl (fun hq2 => ?_) (fun hq2 => ?_)
    · rw [if_neg hq2] at h
      refine v_iload_n F dX11_countPairs_237 rfl rfl ?_
      refine v_bipush F dX11_countPairs_238 rfl ⟨by decide, by decide⟩ ?_
      refine v_icmp_ne F dX11_countPairs_240 rfl (fun hq3 => ?_) (fun hq3 => ?_)
      · rw [if_neg hq3] at h
        refine v_fgt (L' := [mA 1545, mI a1, mU, mU, mU, mU, mU, mU]) ⟨Or.inl rfl, Or.inl rfl, Or.inr rfl, Or.inl rfl, Or.inl rfl, Or.inl rfl, Or.inl rfl, Or.inl rfl, trivial⟩ ?_
        exact fX11_countPairs_247_ok F hX hp h K
      · rw [if_pos hq3] at h
        refine v_aload_n F dX11_countPairs_243 rfl rfl ?_
        obtain ⟨d16, hc17, h⟩ := bd_some h
        refine v_callV0 (c := 11) F dX11_countPairs_244 cv_X11_1004 rfl (PB.ob hp hX (Nat.le_of_ble_eq_true rfl)) (Nat.le_of_ble_eq_true rfl) rfl (vm_X11_keepPairs hp hc17) rfl (rOk.of rfl) ?_
        refine v_fgt (L' := [mA 1545, mI a1, mU, mU, mU, mU, mU, mU]) ⟨Or.inl rfl, Or.inl rfl, Or.inr rfl, Or.inl rfl, Or.inl rfl, Or.inl rfl, Or.inl rfl, Or.inl rfl, trivial⟩ ?_
        exact fX11_countPairs_247_ok F hX hp h K
    · rw [if_pos hq2] at h
      refine v_iconst F dX11_countPairs_149 ⟨by decide, by decide⟩ ?_
      refine v_istore_n F dX11_countPairs_150 rfl (Nat.le_of_ble_eq_true rfl) (L' := [mA 1545, mI a1, mI 0, mU, mU, mU, mU, mU]) rfl ?_
      refine v_fgt (L' := [mA 1545, mU, mI 0, mU, mU, mU, mU, mU]) ⟨Or.inl rfl, Or.inr rfl, Or.inl rfl, Or.inl rfl, Or.inl rfl, Or.inl rfl, Or.inl rfl, Or.inl rfl, trivial⟩ ?_
      exact fX11_countPairs_151_ok F hX hp h K
  · rw [if_neg hq1] at h
    refine v_iconst F dX11_countPairs_10 ⟨by decide, by decide⟩ ?_
    refine v_istore_n F dX11_countPairs_11 rfl (Nat.le_of_ble_eq_true rfl) (L' := [mA 1545, mI a1, mI v2, mI 0, mU, mU, mU, mU]) rfl ?_
    exact fX11_countPairs_12_ok F hX hp h K
theorem fX11_countPairs_2_ok {w : Wd} {l : Launch} {G : Cx} {d m dd : Dt} {a1 v2 : Int} {d' : Dt} {x : Dt} (F : Fx w G cX11_countPairs RX11 8 none { frames := 4, cells := 0, slots := 0, locals := 96 }) (hX : WF dd m) (hp : PB m 1545 11) (h : fX11_countPairs_2 d a1 v2 = some x) (K : (fun q => q = d') x) : V w l WF G (QM w G WF none d' m 0 0) d m 0 0 2 [mA 1545, mI a1, mI v2, mU, mU, mU, mU, mU] [] := by
  unfold fX11_countPairs_2 at h
  exact loop_ok (P := fX11_countPairs_2P w l G (QM w G WF none d' m 0 0) m a1) (fun s x hx h1 h2 => fX11_countPairs_2f_ok F hX hp hx (by
    cases x with
    | inl s' => exact h1 s' rfl
    | inr z => cases h2 z rfl; exact K)) h
theorem vm_X11_countPairs {w : Wd} {l : Launch} {d m : Dt} {a1 : Int} {d' : Dt} (hp : PB m 1545 11) (h : fX11_countPairs d a1 = some d') : VM w l WF yX11_countPairs cX11_countPairs 8 none 4 96 0 0 d m [mA 1545, mI a1] none d' m := by
  obtain ⟨x, h, K⟩ : ∃ x, fX11_countPairs d a1 = some x ∧ x = d' := ⟨_, h, rfl⟩
  refine VM.of (L := [mA 1545, mI a1, mU, mU, mU, mU, mU, mU]) (by decide +kernel) rfl (Nat.le_of_ble_eq_true rfl) fun G F _ => v_fact fun _ hX _ _ => ?_
  unfold fX11_countPairs at h
  refine v_iconst F dX11_countPairs_0 ⟨by decide, by decide⟩ ?_
  refine v_istore_n F dX11_countPairs_1 rfl (Nat.le_of_ble_eq_true rfl) (L' := [mA 1545, mI a1, mI 0, mU, mU, mU, mU, mU]) rfl ?_
  exact fX11_countPairs_2_ok F hX hp h K
theorem fX11_countBy_89_ok {w : Wd} {l : Launch} {G : Cx} {d m dd : Dt} {a1 : Int} {d' : Dt} {x : Dt} (F : Fx w G cX11_countBy RX11 2 none { frames := 5, cells := 0, slots := 0, locals := 123 }) (hX : WF dd m) (hp : PB m 1545 11) (h : fX11_countBy_89 d a1 = some x) (K : (fun q => q = d') x) : V w l WF G (QM w G WF none d' m 0 0) d m 0 0 89 [mA 1545, mU] [] := by
  unfold fX11_countBy_89 at h
  refine v_aload_n F dX11_countBy_89 rfl rfl ?_
  obtain ⟨d5, hc6, h⟩ := bd_some h
  refine v_callV0 (c := 11) F dX11_countBy_90 cv_X11_868 rfl (PB.ob hp hX (Nat.le_of_ble_eq_true rfl)) (Nat.le_of_ble_eq_true rfl) rfl (vm_X11_tell hp hc6) rfl (rOk.of rfl) ?_
  refine v_aload_n F dX11_countBy_93 rfl rfl ?_
  obtain ⟨d7, hc8, h⟩ := bd_some h
  refine v_callV0 (c := 11) F dX11_countBy_94 cv_X11_871 rfl (PB.ob hp hX (Nat.le_of_ble_eq_true rfl)) (Nat.le_of_ble_eq_true rfl) rfl (vm_X11_orderByVotes hp hc8) rfl (rOk.of rfl) ?_
  refine v_aload_n F dX11_countBy_97 rfl rfl ?_
  obtain ⟨d9, hc10, h⟩ := bd_some h
  refine v_callV0 (c := 11) F dX11_countBy_98 cv_X11_874 rfl (PB.ob hp hX (Nat.le_of_ble_eq_true rfl)) (Nat.le_of_ble_eq_true rfl) rfl (vm_X11_winFirst hp hc10) rfl (rOk.of rfl) ?_
  refine v_goto F dX11_countBy_101 rfl ?_
  cases h
  cases (show _ = d' from K)
  exact v_vret F dX11_countBy_148
theorem fX11_countBy_72_ok {w : Wd} {l : Launch} {G : Cx} {d m dd : Dt} {a1 : Int} {d' : Dt} {x : Dt} (F : Fx w G cX11_countBy RX11 2 none { frames := 5, cells := 0, slots := 0, locals := 123 }) (hX : WF dd m) (hp : PB m 1545 11) (h : fX11_countBy_72 d a1 = some x) (K : (fun q => q = d') x) : V w l WF G (QM w G WF none d' m 0 0) d m 0 0 72 [mA 1545, mI a1] [] := by
  unfold fX11_countBy_72 at h
  refine v_iload_n F dX11_countBy_72 rfl rfl ?_
  refine v_iconst F dX11_countBy_73 ⟨by decide, by decide⟩ ?_
  refine v_icmp_ne F dX11_countBy_74 rfl (fun hq2 => ?_) (fun hq2 => ?_)
  · rw [if_neg hq2] at h
    refine v_aload_n F dX11_countBy_84 rfl rfl ?_
    refine v_iload_n F dX11_countBy_85 rfl rfl ?_
    obtain ⟨d3, hc4, h⟩ := bd_some h
    refine v_callV0 (c := 11) F dX11_countBy_86 cv_X11_865 rfl (PB.ob hp hX (Nat.le_of_ble_eq_true rfl)) (Nat.le_of_ble_eq_true rfl) rfl (vm_X11_votesByMarks hp hc4) rfl (rOk.of rfl) ?_
    refine v_fgt (L' := [mA 1545, mU]) ⟨Or.inl rfl, Or.inr rfl, trivial⟩ ?_
    exact fX11_countBy_89_ok F hX hp h K
  · rw [if_pos hq2] at h
    refine v_aload_n F dX11_countBy_77 rfl rfl ?_
    obtain ⟨d11, hc12, h⟩ := bd_some h
    refine v_callV0 (c := 11) F dX11_countBy_78 cv_X11_862 rfl (PB.ob hp hX (Nat.le_of_ble_eq_true rfl)) (Nat.le_of_ble_eq_true rfl) rfl (vm_X11_votesByRanks hp hc12) rfl (rOk.of rfl) ?_
    refine v_goto F dX11_countBy_81 rfl ?_
    refine v_fgt (L' := [mA 1545, mU]) ⟨Or.inl rfl, Or.inr rfl, trivial⟩ ?_
    exact fX11_countBy_89_ok F hX hp h K
theorem fX11_countBy_143_ok {w : Wd} {l : Launch} {G : Cx} {d m dd : Dt} {a1 : Int} {d' : Dt} {x : Dt} (F : Fx w G cX11_countBy RX11 2 none { frames := 5, cells := 0, slots := 0, locals := 123 }) (hX : WF dd m) (hp : PB m 1545 11) (h : fX11_countBy_143 d a1 = some x) (K : (fun q => q = d') x) : V w l WF G (QM w G WF none d' m 0 0) d m 0 0 143 [mA 1545, mI a1] [] := by
  unfold fX11_countBy_143 at h
  refine v_aload_n F dX11_countBy_143 rfl rfl ?_
  refine v_iload_n F dX11_countBy_144 rfl rfl ?_
  obtain ⟨d24, hc25, h⟩ := bd_some h
  refine v_callV0 (c := 11) F dX11_countBy_145 cv_X11_890 rfl (PB.ob hp hX (Nat.le_of_ble_eq_true rfl)) (Nat.le_of_ble_eq_true rfl) rfl (vm_X11_countPairs hp hc25) rfl (rOk.of rfl) ?_
  cases h
  cases (show _ = d' from K)
  exact v_vret F dX11_countBy_148
theorem fX11_countBy_137_ok {w : Wd} {l : Launch} {G : Cx} {d m dd : Dt} {a1 s1 : Int} {d' : Dt} {x : Dt} (F : Fx w G cX11_countBy RX11 2 none { frames := 5, cells := 0, slots := 0, locals := 123 }) (hX : WF dd m) (hp : PB m 1545 11) (h : fX11_countBy_137 d a1 s1 = some x) (K : (fun q => q = d') x) : V w l WF G (QM w G WF none d' m 0 0) d m 0 0 137 [mU, mU] [mI s1, mA 1545] := by
  unfold fX11_countBy_137 at h
  obtain ⟨d34, hc35, h⟩ := bd_some h
  refine v_callV0 (c := 11) F dX11_countBy_137 cv_X11_886 rfl (PB.ob hp hX (Nat.le_of_ble_eq_true rfl)) (Nat.le_of_ble_eq_true rfl) rfl (vm_X11_countTransfer hp hc35) rfl (rOk.of rfl) ?_
  refine v_goto F dX11_countBy_140 rfl ?_
  cases h
  cases (show _ = d' from K)
  exact v_vret F dX11_countBy_148
theorem fX11_countBy_125_ok {w : Wd} {l : Launch} {G : Cx} {d m dd : Dt} {a1 : Int} {d' : Dt} {x : Dt} (F : Fx w G cX11_countBy RX11 2 none { frames := 5, cells := 0, slots := 0, locals := 123 }) (hX : WF dd m) (hp : PB m 1545 11) (h : fX11_countBy_125 d a1 = some x) (K : (fun q => q = d') x) : V w l WF G (QM w G WF none d' m 0 0) d m 0 0 125 [mA 1545, mI a1] [] := by
  unfold fX11_countBy_125 at h
  refine v_aload_n F dX11_countBy_125 rfl rfl ?_
  refine v_iload_n F dX11_countBy_126 rfl rfl ?_
  refine v_bipush F dX11_countBy_127 rfl ⟨by decide, by decide⟩ ?_
  refine v_icmp_ne F dX11_countBy_129 rfl (fun hq33 => ?_) (fun hq33 => ?_)
  · rw [if_neg hq33] at h
    refine v_iconst F dX11_countBy_136 ⟨by decide, by decide⟩ ?_
    refine v_fgt (L' := [mU, mU]) ⟨Or.inr rfl, Or.inr rfl, trivial⟩ ?_
    exact fX11_countBy_137_ok F hX hp h K
  · rw [if_pos hq33] at h
    refine v_iconst F dX11_countBy_132 ⟨by decide, by decide⟩ ?_
    refine v_goto F dX11_countBy_133 rfl ?_
    refine v_fgt (L' := [mU, mU]) ⟨Or.inr rfl, Or.inr rfl, trivial⟩ ?_
    exact fX11_countBy_137_ok F hX hp h K
theorem vm_X11_countBy {w : Wd} {l : Launch} {d m : Dt} {a1 : Int} {d' : Dt} (hp : PB m 1545 11) (h : fX11_countBy d a1 = some d') : VM w l WF yX11_countBy cX11_countBy 2 none 5 123 0 0 d m [mA 1545, mI a1] none d' m := by
  obtain ⟨x, h, K⟩ : ∃ x, fX11_countBy d a1 = some x ∧ x = d' := ⟨_, h, rfl⟩
  refine VM.of (L := [mA 1545, mI a1]) (by decide +kernel) rfl (Nat.le_of_ble_eq_true rfl) fun G F _ => v_fact fun _ hX _ _ => ?_
  unfold fX11_countBy at h
  refine v_iload_n F dX11_countBy_0 rfl rfl ?_
  by_cases hq1 : a1 = 0
  · rw [if_pos hq1] at h
    refine v_tableIn F dX11_countBy_1 hq1 (by decide) (by decide) rfl rfl ?_
    exact fX11_countBy_72_ok F hX hp h K
  · rw [if_neg hq1] at h
    by_cases hq13 : a1 = 1
    · rw [if_pos hq13] at h
      refine v_tableIn F dX11_countBy_1 hq13 (by decide) (by decide) rfl rfl ?_
      exact fX11_countBy_72_ok F hX hp h K
    · rw [if_neg hq13] at h
      by_cases hq14 : a1 = 2
      · rw [if_pos hq14] at h
        refine v_tableIn F dX11_countBy_1 hq14 (by decide) (by decide) rfl rfl ?_
        exact fX11_countBy_72_ok F hX hp h K
      · rw [if_neg hq14] at h
        by_cases hq15 : a1 = 3
        · rw [if_pos hq15] at h
          refine v_tableIn F dX11_countBy_1 hq15 (by decide) (by decide) rfl rfl ?_
          exact fX11_countBy_72_ok F hX hp h K
        · rw [if_neg hq15] at h
          by_cases hq16 : a1 = 4
          · rw [if_pos hq16] at h
            refine v_tableIn F dX11_countBy_1 hq16 (by decide) (by decide) rfl rfl ?_
            refine v_aload_n F dX11_countBy_104 rfl rfl ?_
            obtain ⟨d17, hc18, h⟩ := bd_some h
            refine v_callV0 (c := 11) F dX11_countBy_105 cv_X11_877 rfl (PB.ob hp hX (Nat.le_of_ble_eq_true rfl)) (Nat.le_of_ble_eq_true rfl) rfl (vm_X11_countMedian hp hc18) rfl (rOk.of rfl) ?_
            refine v_goto F dX11_countBy_108 rfl ?_
            cases h
            cases (show _ = d' from K)
            exact v_vret F dX11_countBy_148
          · rw [if_neg hq16] at h
            by_cases hq19 : a1 = 5
            · rw [if_pos hq19] at h
              refine v_tableIn F dX11_countBy_1 hq19 (by decide) (by decide) rfl rfl ?_
              exact fX11_countBy_72_ok F hX hp h K
            · rw [if_neg hq19] at h
              by_cases hq20 : a1 = 6
              · rw [if_pos hq20] at h
                refine v_tableIn F dX11_countBy_1 hq20 (by decide) (by decide) rfl rfl ?_
                refine v_aload_n F dX11_countBy_111 rfl rfl ?_
                obtain ⟨d21, hc22, h⟩ := bd_some h
                refine v_callV0 (c := 11) F dX11_countBy_112 cv_X11_880 rfl (PB.ob hp hX (Nat.le_of_ble_eq_true rfl)) (Nat.le_of_ble_eq_true rfl) rfl (vm_X11_countOut hp hc22) rfl (rOk.of rfl) ?_
                refine v_goto F dX11_countBy_115 rfl ?_
                cases h
                cases (show _ = d' from K)
                exact v_vret F dX11_countBy_148
              · rw [if_neg hq20] at h
                by_cases hq23 : a1 = 7
                · rw [if_pos hq23] at h
                  refine v_tableIn F dX11_countBy_1 hq23 (by decide) (by decide) rfl rfl ?_
                  exact fX11_countBy_143_ok F hX hp h K
                · rw [if_neg hq23] at h
                  by_cases hq26 : a1 = 8
                  · rw [if_pos hq26] at h
                    refine v_tableIn F dX11_countBy_1 hq26 (by decide) (by decide) rfl rfl ?_
                    exact fX11_countBy_143_ok F hX hp h K
                  · rw [if_neg hq26] at h
                    by_cases hq27 : a1 = 9
                    · rw [if_pos hq27] at h
                      refine v_tableIn F dX11_countBy_1 hq27 (by decide) (by decide) rfl rfl ?_
                      exact fX11_countBy_143_ok F hX hp h K
                    · rw [if_neg hq27] at h
                      by_cases hq28 : a1 = 10
                      · rw [if_pos hq28] at h
                        refine v_tableIn F dX11_countBy_1 hq28 (by decide) (by decide) rfl rfl ?_
                        exact fX11_countBy_143_ok F hX hp h K
                      · rw [if_neg hq28] at h
                        by_cases hq29 : a1 = 11
                        · rw [if_pos hq29] at h
                          refine v_tableIn F dX11_countBy_1 hq29 (by decide) (by decide) rfl rfl ?_
                          refine v_aload_n F dX11_countBy_118 rfl rfl ?_
                          obtain ⟨d30, hc31, h⟩ := bd_some h
                          refine v_callV0 (c := 11) F dX11_countBy_119 cv_X11_883 rfl (PB.ob hp hX (Nat.le_of_ble_eq_true rfl)) (Nat.le_of_ble_eq_true rfl) rfl (vm_X11_countMeek hp hc31) rfl (rOk.of rfl) ?_
                          refine v_goto F dX11_countBy_122 rfl ?_
                          cases h
                          cases (show _ = d' from K)
                          exact v_vret F dX11_countBy_148
                        · rw [if_neg hq29] at h
                          by_cases hq32 : a1 = 12
                          · rw [if_pos hq32] at h
                            refine v_tableIn F dX11_countBy_1 hq32 (by decide) (by decide) rfl rfl ?_
                            exact fX11_countBy_125_ok F hX hp h K
                          · rw [if_neg hq32] at h
                            by_cases hq36 : a1 = 13
                            · rw [if_pos hq36] at h
                              refine v_tableIn F dX11_countBy_1 hq36 (by decide) (by decide) rfl rfl ?_
                              exact fX11_countBy_125_ok F hX hp h K
                            · rw [if_neg hq36] at h
                              refine v_tableOut F dX11_countBy_1 (by omega) rfl ?_
                              exact fX11_countBy_143_ok F hX hp h K
def fX11_count_116P (w : Wd) (l : Launch) (G : Cx) (Q : State → Prop) (m : Dt) (a1 a2 : Int) (s : Dt × Int) : Prop := V w l WF G Q s.1 m 0 0 116 [mA 1545, mU, mU, mU, mI (s.2)] []
theorem fX11_count_147_ok {w : Wd} {l : Launch} {G : Cx} {d m dd : Dt} {a1 a2 : Int} {d' : Dt} {r : Int} {x : (Dt × Int)} (F : Fx w G cX11_count RX11 5 (some .int) { frames := 7, cells := 0, slots := 0, locals := 164 }) (hX : WF dd m) (hp : PB m 1545 11) (h : fX11_count_147 d a1 a2 = some x) (K : (fun q => q = (d', r)) x) : V w l WF G (QM w G WF (some (mI r)) d' m 0 0) d m 0 0 147 [mA 1545, mU, mU, mU, mU] [] := by
  unfold fX11_count_147 at h
  refine v_aload_n F dX11_count_147 rfl rfl ?_
  refine v_iconst F dX11_count_148 ⟨by decide, by decide⟩ ?_
  obtain ⟨d17, ed17, h⟩ := sd_some h
  refine pf_X11_558 F dX11_count_149 hp (Or.inr rfl) ?_
  refine v_nD ed17 ?_
  refine v_aload_n F dX11_count_152 rfl rfl ?_
  refine v_aload_n F dX11_count_153 rfl rfl ?_
  refine gf_X11_755 F dX11_count_154 hp ?_
  obtain ⟨d18, ed18, h⟩ := sd_some h
  refine pf_X11_850 F dX11_count_157 hp ?_
  refine v_nD ed18 ?_
  refine v_aload_n F dX11_count_160 rfl rfl ?_
  refine v_aload_n F dX11_count_161 rfl rfl ?_
  refine gf_X11_767 F dX11_count_162 hp ?_
  obtain ⟨d19, ed19, h⟩ := sd_some h
  refine pf_X11_853 F dX11_count_165 hp ?_
  refine v_nD ed19 ?_
  refine v_aload_n F dX11_count_168 rfl rfl ?_
  refine v_aload_n F dX11_count_169 rfl rfl ?_
  refine gf_X11_770 F dX11_count_170 hp ?_
  obtain ⟨d20, ed20, h⟩ := sd_some h
  refine pf_X11_856 F dX11_count_173 hp ?_
  refine v_nD ed20 ?_
  refine v_aload_n F dX11_count_176 rfl rfl ?_
  refine v_aload_n F dX11_count_177 rfl rfl ?_
  refine gf_X11_773 F dX11_count_178 hp ?_
  obtain ⟨d21, ed21, h⟩ := sd_some h
  refine pf_X11_859 F dX11_count_181 hp ?_
  refine v_nD ed21 ?_
  refine v_aload_n F dX11_count_184 rfl rfl ?_
  refine gf_X11_829 F dX11_count_185 hp ?_
  cases h
  cases (show _ = (d', r) from K)
  exact v_iret F dX11_count_188
theorem fX11_count_116f_ok {w : Wd} {l : Launch} {G : Cx} {m dd : Dt} {a1 a2 : Int} {d' : Dt} {r : Int} {s : Dt × Int} {x : ((Dt × Int) ⊕ (Dt × Int))} (F : Fx w G cX11_count RX11 5 (some .int) { frames := 7, cells := 0, slots := 0, locals := 164 }) (hX : WF dd m) (hp : PB m 1545 11) (h : fX11_count_116f a1 a2 s = some x) (K : (Sum.elim (fX11_count_116P w l G (QM w G WF (some (mI r)) d' m 0 0) m a1 a2) (fun q => q = (d', r))) x) : V w l WF G (QM w G WF (some (mI r)) d' m 0 0) s.1 m 0 0 116 [mA 1545, mU, mU, mU, mI (s.2)] [] := by
  obtain ⟨d, v4⟩ := s
  unfold fX11_count_116f at h
  dsimp only at h
  refine v_iload F dX11_count_116 rfl ?_
  refine v_aload_n F dX11_count_118 rfl rfl ?_
  refine gf_X11_755 F dX11_count_119 hp ?_
  refine v_icmp_ge F dX11_count_122 rfl (fun hq16 => ?_) (fun hq16 => ?_)
  · rw [if_pos hq16] at h
    obtain ⟨z, hu, ez⟩ := up_some h
    clear h
    subst ez
    have h := hu
    clear hu
    refine v_fgt (L' := [mA 1545, mU, mU, mU, mU]) ⟨Or.inl rfl, Or.inl rfl, Or.inl rfl, Or.inl rfl, Or.inr rfl, trivial⟩ ?_
    exact fX11_count_147_ok F hX hp h K
  · rw [if_neg hq16] at h
    refine v_aload_n F dX11_count_125 rfl rfl ?_
    refine gf_X11_764 F dX11_count_126 hp (v := 1617) rfl ?_
    refine v_iload F dX11_count_129 rfl ?_
    obtain ⟨hi22, h⟩ := ck_some h
    refine v_zald F dX11_count_131 (ar_X11_101 hX hp) hi22 ?_
    refine v_if_eq F dX11_count_132 rfl (fun hq23 => ?_) (fun hq23 => ?_)
    · rw [if_pos hq23] at h
      obtain ⟨x24, ex24, h⟩ := lv_some h
      refine v_iincN F dX11_count_141 (Nat.le_of_ble_eq_true rfl) rfl ex24 (L' := [mA 1545, mU, mU, mU, mI x24]) rfl ?_
      refine v_goto F dX11_count_144 rfl ?_
      cases h
      exact K
    · rw [if_neg hq23] at h
      refine v_aload_n F dX11_count_135 rfl rfl ?_
      refine v_iload F dX11_count_136 rfl ?_
      obtain ⟨d25, hc26, h⟩ := bd_some h
      refine v_callV0 (c := 11) F dX11_count_138 cv_X11_832 rfl (PB.ob hp hX (Nat.le_of_ble_eq_true rfl)) (Nat.le_of_ble_eq_true rfl) rfl (vm_X11_win hp hc26) rfl (rOk.of rfl) ?_
      obtain ⟨x27, ex27, h⟩ := lv_some h
      refine v_iincN F dX11_count_141 (Nat.le_of_ble_eq_true rfl) rfl ex27 (L' := [mA 1545, mU, mU, mU, mI x27]) rfl ?_
      refine v_goto F dX11_count_144 rfl ?_
      cases h
      exact K
theorem fX11_count_116_ok {w : Wd} {l : Launch} {G : Cx} {d m dd : Dt} {a1 a2 v4 : Int} {d' : Dt} {r : Int} {x : (Dt × Int)} (F : Fx w G cX11_count RX11 5 (some .int) { frames := 7, cells := 0, slots := 0, locals := 164 }) (hX : WF dd m) (hp : PB m 1545 11) (h : fX11_count_116 d a1 a2 v4 = some x) (K : (fun q => q = (d', r)) x) : V w l WF G (QM w G WF (some (mI r)) d' m 0 0) d m 0 0 116 [mA 1545, mU, mU, mU, mI v4] [] := by
  unfold fX11_count_116 at h
  exact loop_ok (P := fX11_count_116P w l G (QM w G WF (some (mI r)) d' m 0 0) m a1 a2) (fun s x hx h1 h2 => fX11_count_116f_ok F hX hp hx (by
    cases x with
    | inl s' => exact h1 s' rfl
    | inr z => cases h2 z rfl; exact K)) h
theorem fX11_count_91_ok {w : Wd} {l : Launch} {G : Cx} {d m dd : Dt} {a1 a2 v3 s1 s2 : Int} {d' : Dt} {r : Int} {x : (Dt × Int)} (F : Fx w G cX11_count RX11 5 (some .int) { frames := 7, cells := 0, slots := 0, locals := 164 }) (hX : WF dd m) (hp : PB m 1545 11) (h : fX11_count_91 d a1 a2 v3 s1 s2 = some x) (K : (fun q => q = (d', r)) x) : V w l WF G (QM w G WF (some (mI r)) d' m 0 0) d m 0 0 91 [mA 1545, mU, mU, mI v3, mU] [mI s2, mI s1, mA 1545] := by
  unfold fX11_count_91 at h
  obtain ⟨d13, hc14, h⟩ := bd_some h
  refine v_callV0 (c := 11) F dX11_count_91 cv_X11_844 rfl (PB.ob hp hX (Nat.le_of_ble_eq_true rfl)) (Nat.le_of_ble_eq_true rfl) rfl (vm_X11_gather hp hc14) rfl (rOk.of rfl) ?_
  refine v_aload_n F dX11_count_94 rfl rfl ?_
  refine gf_X11_761 F dX11_count_95 hp ?_
  refine v_aload_n F dX11_count_98 rfl rfl ?_
  refine gf_X11_758 F dX11_count_99 hp ?_
  refine v_icmp_le F dX11_count_102 rfl (fun hq15 => ?_) (fun hq15 => ?_)
  · rw [if_pos hq15] at h
    refine v_iconst F dX11_count_113 ⟨by decide, by decide⟩ ?_
    refine v_istore F dX11_count_114 (Nat.le_of_ble_eq_true rfl) (L' := [mA 1545, mU, mU, mI v3, mI 0]) rfl ?_
    refine v_fgt (L' := [mA 1545, mU, mU, mU, mI 0]) ⟨Or.inl rfl, Or.inl rfl, Or.inl rfl, Or.inr rfl, Or.inl rfl, trivial⟩ ?_
    exact fX11_count_116_ok F hX hp h K
  · rw [if_neg hq15] at h
    refine v_aload_n F dX11_count_105 rfl rfl ?_
    refine v_iload_n F dX11_count_106 rfl rfl ?_
    obtain ⟨d28, hc29, h⟩ := bd_some h
    refine v_callV0 (c := 11) F dX11_count_107 cv_X11_847 rfl (PB.ob hp hX (Nat.le_of_ble_eq_true rfl)) (Nat.le_of_ble_eq_true rfl) rfl (vm_X11_countBy hp hc29) rfl (rOk.of rfl) ?_
    refine v_goto F dX11_count_110 rfl ?_
    refine v_fgt (L' := [mA 1545, mU, mU, mU, mU]) ⟨Or.inl rfl, Or.inl rfl, Or.inl rfl, Or.inr rfl, Or.inl rfl, trivial⟩ ?_
    exact fX11_count_147_ok F hX hp h K
theorem fX11_count_73_ok {w : Wd} {l : Launch} {G : Cx} {d m dd : Dt} {a1 a2 s1 s2 : Int} {d' : Dt} {r : Int} {x : (Dt × Int)} (F : Fx w G cX11_count RX11 5 (some .int) { frames := 7, cells := 0, slots := 0, locals := 164 }) (hX : WF dd m) (hp : PB m 1545 11) (h : fX11_count_73 d a1 a2 s1 s2 = some x) (K : (fun q => q = (d', r)) x) : V w l WF G (QM w G WF (some (mI r)) d' m 0 0) d m 0 0 73 [mA 1545, mU, mU, mU, mU] [mI s2, mI s1, mA 1545] := by
  unfold fX11_count_73 at h
  obtain ⟨d31, hc32, h⟩ := bd_some h
  refine v_callV0 (c := 11) F dX11_count_73 cv_X11_841 rfl (PB.ob hp hX (Nat.le_of_ble_eq_true rfl)) (Nat.le_of_ble_eq_true rfl) rfl (vm_X11_countLists hp hc32) rfl (rOk.of rfl) ?_
  refine v_goto F dX11_count_76 rfl ?_
  exact fX11_count_147_ok F hX hp h K
theorem vm_X11_count {w : Wd} {l : Launch} {d m : Dt} {a1 a2 : Int} {d' : Dt} {r : Int} (hp : PB m 1545 11) (h : fX11_count d a1 a2 = some (d', r)) : VM w l WF yX11_count cX11_count 5 (some .int) 7 164 0 0 d m [mA 1545, mI a1, mI a2] (some (mI r)) d' m := by
  obtain ⟨x, h, K⟩ : ∃ x, fX11_count d a1 a2 = some x ∧ x = (d', r) := ⟨_, h, rfl⟩
  refine VM.of (L := [mA 1545, mI a1, mI a2, mU, mU]) (by decide +kernel) rfl (Nat.le_of_ble_eq_true rfl) fun G F _ => v_fact fun _ hX _ _ => ?_
  unfold fX11_count at h
  refine v_aload_n F dX11_count_0 rfl rfl ?_
  refine v_iload_n F dX11_count_1 rfl rfl ?_
  refine v_callVv (c := 11) F dX11_count_2 cv_X11_480 rfl (PB.ob hp hX (Nat.le_of_ble_eq_true rfl)) (Nat.le_of_ble_eq_true rfl) rfl (vm_X11_isContest hp) rfl (rOk.of rfl) ?_
  refine v_if_ne F dX11_count_5 rfl (fun hq1 => ?_) (fun hq1 => ?_)
  · rw [if_neg hq1] at h
    refine v_iload_n F dX11_count_10 rfl rfl ?_
    refine v_i2l F dX11_count_11 ?_
    refine v_lconst0 F dX11_count_12 ?_
    refine v_lconst1 F dX11_count_13 ?_
    refine v_callSv F dX11_count_14 cs_X11_13 rfl (vm_X11_in) rfl (rOk.of rfl) ?_
    refine v_if_ne F dX11_count_17 rfl (fun hq2 => ?_) (fun hq2 => ?_)
    · rw [if_neg hq2] at h
      refine v_aload_n F dX11_count_23 rfl rfl ?_
      obtain ⟨x3, hc4, h⟩ := b1_some h
      refine v_callVv (c := 11) F dX11_count_24 cv_X11_835 rfl (PB.ob hp hX (Nat.le_of_ble_eq_true rfl)) (Nat.le_of_ble_eq_true rfl) rfl (vm_X11_areClosed hp hc4) rfl (rOk.of rfl) ?_
      refine v_if_ne F dX11_count_27 rfl (fun hq5 => ?_) (fun hq5 => ?_)
      · rw [if_neg hq5] at h
        refine v_aload_n F dX11_count_33 rfl rfl ?_
        refine v_iconst F dX11_count_34 ⟨by decide, by decide⟩ ?_
        obtain ⟨d6, ed6, h⟩ := sd_some h
        refine pf_X11_829 F dX11_count_35 hp ?_
        refine v_nD ed6 ?_
        refine v_aload_n F dX11_count_38 rfl rfl ?_
        refine v_iconst F dX11_count_39 ⟨by decide, by decide⟩ ?_
        obtain ⟨d7, ed7, h⟩ := sd_some h
        refine pf_X11_817 F dX11_count_40 hp ?_
        refine v_nD ed7 ?_
        refine v_aload_n F dX11_count_43 rfl rfl ?_
        refine v_iconst F dX11_count_44 ⟨by decide, by decide⟩ ?_
        obtain ⟨d8, ed8, h⟩ := sd_some h
        refine pf_X11_838 F dX11_count_45 hp ?_
        refine v_nD ed8 ?_
        refine v_aload_n F dX11_count_48 rfl rfl ?_
        refine v_iload_n F dX11_count_49 rfl rfl ?_
        refine v_iconst F dX11_count_50 ⟨by decide, by decide⟩ ?_
        obtain ⟨x9, hc10, h⟩ := b1_some h
        refine v_callVv (c := 11) F dX11_count_51 cv_X11_485 rfl (PB.ob hp hX (Nat.le_of_ble_eq_true rfl)) (Nat.le_of_ble_eq_true rfl) rfl (vm_X11_contestIs hp hc10) rfl (rOk.of rfl) ?_
        refine v_istore_n F dX11_count_54 rfl (Nat.le_of_ble_eq_true rfl) (L' := [mA 1545, mI a1, mI a2, mI x9, mU]) rfl ?_
        refine v_iload_n F dX11_count_55 rfl rfl ?_
        refine v_bipush F dX11_count_56 rfl ⟨by decide, by decide⟩ ?_
        refine v_icmp_ne F dX11_count_58 rfl (fun hq11 => ?_) (fun hq11 => ?_)
        · rw [if_neg hq11] at h
          refine v_aload_n F dX11_count_79 rfl rfl ?_
          refine v_iload_n F dX11_count_80 rfl rfl ?_
          refine v_iload_n F dX11_count_81 rfl rfl ?_
          refine v_iconst F dX11_count_82 ⟨by decide, by decide⟩ ?_
          refine v_icmp_ne F dX11_count_83 rfl (fun hq12 => ?_) (fun hq12 => ?_)
          · rw [if_neg hq12] at h
            refine v_iconst F dX11_count_90 ⟨by decide, by decide⟩ ?_
            refine v_fgt (L' := [mA 1545, mU, mU, mI x9, mU]) ⟨Or.inl rfl, Or.inr rfl, Or.inr rfl, Or.inl rfl, Or.inl rfl, trivial⟩ ?_
            exact fX11_count_91_ok F hX hp h K
          · rw [if_pos hq12] at h
            refine v_iconst F dX11_count_86 ⟨by decide, by decide⟩ ?_
            refine v_goto F dX11_count_87 rfl ?_
            refine v_fgt (L' := [mA 1545, mU, mU, mI x9, mU]) ⟨Or.inl rfl, Or.inr rfl, Or.inr rfl, Or.inl rfl, Or.inl rfl, trivial⟩ ?_
            exact fX11_count_91_ok F hX hp h K
        · rw [if_pos hq11] at h
          refine v_aload_n F dX11_count_61 rfl rfl ?_
          refine v_iload_n F dX11_count_62 rfl rfl ?_
          refine v_iload_n F dX11_count_63 rfl rfl ?_
          refine v_iconst F dX11_count_64 ⟨by decide, by decide⟩ ?_
          refine v_icmp_ne F dX11_count_65 rfl (fun hq30 => ?_) (fun hq30 => ?_)
          · rw [if_neg hq30] at h
            refine v_iconst F dX11_count_72 ⟨by decide, by decide⟩ ?_
            refine v_fgt (L' := [mA 1545, mU, mU, mU, mU]) ⟨Or.inl rfl, Or.inr rfl, Or.inr rfl, Or.inr rfl, Or.inl rfl, trivial⟩ ?_
            exact fX11_count_73_ok F hX hp h K
          · rw [if_pos hq30] at h
            refine v_iconst F dX11_count_68 ⟨by decide, by decide⟩ ?_
            refine v_goto F dX11_count_69 rfl ?_
            refine v_fgt (L' := [mA 1545, mU, mU, mU, mU]) ⟨Or.inl rfl, Or.inr rfl, Or.inr rfl, Or.inr rfl, Or.inl rfl, trivial⟩ ?_
            exact fX11_count_73_ok F hX hp h K
      · rw [if_pos hq5] at h
        refine v_bipush F dX11_count_30 rfl ⟨by decide, by decide⟩ ?_
        cases h
        cases (show _ = (d', r) from K)
        exact v_iret F dX11_count_32
    · rw [if_pos hq2] at h
      refine v_bipush F dX11_count_20 rfl ⟨by decide, by decide⟩ ?_
      cases h
      cases (show _ = (d', r) from K)
      exact v_iret F dX11_count_22
  · rw [if_pos hq1] at h
    refine v_iconst F dX11_count_8 ⟨by decide, by decide⟩ ?_
    cases h
    cases (show _ = (d', r) from K)
    exact v_iret F dX11_count_9
theorem vm_X0_elected {w : Wd} {l : Launch} {d m : Dt} {a1 : Int} {r : Int} (hp : PB m 1 0) (h : fX0_elected d a1 = some r) : VM w l WF yX0_elected cX0_elected 2 (some .int) 1 22 0 0 d m [mA 1, mI a1] (some (mI r)) d m := by
  obtain ⟨x, h, K⟩ : ∃ x, fX0_elected d a1 = some x ∧ x = r := ⟨_, h, rfl⟩
  refine VM.of (L := [mA 1, mI a1]) (by decide +kernel) rfl (Nat.le_of_ble_eq_true rfl) fun G F _ => v_fact fun _ hX _ _ => ?_
  unfold fX0_elected at h
  refine v_aload_n F dX0_elected_0 rfl rfl ?_
  refine gf_X0_287 F dX0_elected_1 hp ?_
  refine v_if_eq F dX0_elected_4 rfl (fun hq1 => ?_) (fun hq1 => ?_)
  · rw [if_pos hq1] at h
    refine v_iconst F dX0_elected_36 ⟨by decide, by decide⟩ ?_
    cases h
    cases (show _ = r from K)
    exact v_iret F dX0_elected_37
  · rw [if_neg hq1] at h
    refine v_iload_n F dX0_elected_7 rfl rfl ?_
    refine v_iconst F dX0_elected_8 ⟨by decide, by decide⟩ ?_
    refine v_aload_n F dX0_elected_9 rfl rfl ?_
    refine gf_X0_127 F dX0_elected_10 hp (v := 79) rfl ?_
    refine gf_X0_568 F dX0_elected_13 (ob_X0_35 hX hp) ?_
    refine v_iconst F dX0_elected_16 ⟨by decide, by decide⟩ ?_
    refine v_isub F dX0_elected_17 ?_
    refine v_callSv F dX0_elected_18 cs_X0_163 rfl (vm_X0_within) rfl (rOk.of rfl) ?_
    refine v_if_eq F dX0_elected_21 rfl (fun hq2 => ?_) (fun hq2 => ?_)
    · rw [if_pos hq2] at h
      refine v_iconst F dX0_elected_36 ⟨by decide, by decide⟩ ?_
      cases h
      cases (show _ = r from K)
      exact v_iret F dX0_elected_37
    · rw [if_neg hq2] at h
      refine v_aload_n F dX0_elected_24 rfl rfl ?_
      refine gf_X0_127 F dX0_elected_25 hp (v := 79) rfl ?_
      refine gf_X0_571 F dX0_elected_28 (ob_X0_35 hX hp) (v := 249) rfl ?_
      refine v_iload_n F dX0_elected_31 rfl rfl ?_
      obtain ⟨hi3, h⟩ := ck_some h
      refine v_iald F dX0_elected_32 (ar_X8_18 hX (ob_X0_35 hX hp)) hi3 ?_
      refine v_goto F dX0_elected_33 rfl ?_
      cases h
      cases (show _ = r from K)
      exact v_iret F dX0_elected_37
theorem vm_X11_elected {w : Wd} {l : Launch} {d m : Dt} {a1 : Int} {r : Int} (hp : PB m 1545 11) (h : fX11_elected d a1 = some r) : VM w l WF yX11_elected cX11_elected 2 (some .int) 1 25 0 0 d m [mA 1545, mI a1] (some (mI r)) d m := by
  obtain ⟨x, h, K⟩ : ∃ x, fX11_elected d a1 = some x ∧ x = r := ⟨_, h, rfl⟩
  refine VM.of (L := [mA 1545, mI a1]) (by decide +kernel) rfl (Nat.le_of_ble_eq_true rfl) fun G F _ => v_fact fun _ hX _ _ => ?_
  unfold fX11_elected at h
  refine v_aload_n F dX11_elected_0 rfl rfl ?_
  refine gf_X11_558 F dX11_elected_1 hp ?_
  refine v_if_eq F dX11_elected_4 rfl (fun hq1 => ?_) (fun hq1 => ?_)
  · rw [if_pos hq1] at h
    refine v_iconst F dX11_elected_32 ⟨by decide, by decide⟩ ?_
    cases h
    cases (show _ = r from K)
    exact v_iret F dX11_elected_33
  · rw [if_neg hq1] at h
    refine v_iload_n F dX11_elected_7 rfl rfl ?_
    refine v_i2l F dX11_elected_8 ?_
    refine v_lconst0 F dX11_elected_9 ?_
    refine v_aload_n F dX11_elected_10 rfl rfl ?_
    refine gf_X11_829 F dX11_elected_11 hp ?_
    refine v_iconst F dX11_elected_14 ⟨by decide, by decide⟩ ?_
    refine v_isub F dX11_elected_15 ?_
    refine v_i2l F dX11_elected_16 ?_
    refine v_callSv F dX11_elected_17 cs_X11_13 rfl (vm_X11_in) rfl (rOk.of rfl) ?_
    refine v_if_eq F dX11_elected_20 rfl (fun hq2 => ?_) (fun hq2 => ?_)
    · rw [if_pos hq2] at h
      refine v_iconst F dX11_elected_32 ⟨by decide, by decide⟩ ?_
      cases h
      cases (show _ = r from K)
      exact v_iret F dX11_elected_33
    · rw [if_neg hq2] at h
      refine v_aload_n F dX11_elected_23 rfl rfl ?_
      refine gf_X11_826 F dX11_elected_24 hp (v := 1626) rfl ?_
      refine v_iload_n F dX11_elected_27 rfl rfl ?_
      obtain ⟨hi3, h⟩ := ck_some h
      refine v_iald F dX11_elected_28 (ar_X11_121 hX hp) hi3 ?_
      refine v_goto F dX11_elected_29 rfl ?_
      cases h
      cases (show _ = r from K)
      exact v_iret F dX11_elected_33
theorem vm_X0_isRound {w : Wd} {l : Launch} {d m : Dt} {a1 : Int} (hp : PB m 1 0) : VM w l WF yX0_isRound cX0_isRound 2 (some .boolean) 1 22 0 0 d m [mA 1, mI a1] (some (mI (fX0_isRound d a1))) d m := by
  obtain ⟨r, hr⟩ : ∃ r, fX0_isRound d a1 = r := ⟨_, rfl⟩
  rw [hr]
  obtain ⟨x, h, K⟩ : ∃ x, fX0_isRound d a1 = x ∧ x = r := ⟨_, hr, rfl⟩
  refine VM.of (L := [mA 1, mI a1]) (by decide +kernel) rfl (Nat.le_of_ble_eq_true rfl) fun G F _ => v_fact fun _ hX _ _ => ?_
  unfold fX0_isRound at h
  refine v_aload_n F dX0_isRound_0 rfl rfl ?_
  refine gf_X0_287 F dX0_isRound_1 hp ?_
  refine v_if_eq F dX0_isRound_4 rfl (fun hq1 => ?_) (fun hq1 => ?_)
  · rw [if_pos hq1] at h
    refine v_iconst F dX0_isRound_28 ⟨by decide, by decide⟩ ?_
    subst h
    cases (show _ = r from K)
    exact v_zret F (Or.inl rfl) dX0_isRound_29
  · rw [if_neg hq1] at h
    refine v_iload_n F dX0_isRound_7 rfl rfl ?_
    refine v_iconst F dX0_isRound_8 ⟨by decide, by decide⟩ ?_
    refine v_aload_n F dX0_isRound_9 rfl rfl ?_
    refine gf_X0_127 F dX0_isRound_10 hp (v := 79) rfl ?_
    refine gf_X0_587 F dX0_isRound_13 (ob_X0_35 hX hp) ?_
    refine v_iconst F dX0_isRound_16 ⟨by decide, by decide⟩ ?_
    refine v_isub F dX0_isRound_17 ?_
    refine v_callSv F dX0_isRound_18 cs_X0_163 rfl (vm_X0_within) rfl (rOk.of rfl) ?_
    refine v_if_eq F dX0_isRound_21 rfl (fun hq2 => ?_) (fun hq2 => ?_)
    · rw [if_pos hq2] at h
      refine v_iconst F dX0_isRound_28 ⟨by decide, by decide⟩ ?_
      subst h
      cases (show _ = r from K)
      exact v_zret F (Or.inl rfl) dX0_isRound_29
    · rw [if_neg hq2] at h
      refine v_iconst F dX0_isRound_24 ⟨by decide, by decide⟩ ?_
      refine v_goto F dX0_isRound_25 rfl ?_
      subst h
      cases (show _ = r from K)
      exact v_zret F (Or.inr rfl) dX0_isRound_29
theorem fX0_isRound_z {d : Dt} {a1 : Int} : fX0_isRound d a1 = 0 ∨ fX0_isRound d a1 = 1 := by
  unfold fX0_isRound
  repeat' (first | exact Or.inl rfl | exact Or.inr rfl | split | assumption | exact fX0_within_z)
theorem fX0_round_39_ok {w : Wd} {l : Launch} {G : Cx} {d m dd : Dt} {a1 a2 : Int} {r : Int} {x : Int} (F : Fx w G cX0_round RX0 3 (some .long) { frames := 2, cells := 0, slots := 0, locals := 43 }) (hX : WF dd m) (hp : PB m 1 0) (h : fX0_round_39 d a1 a2 = some x) (K : (fun q => q = r) x) : V w l WF G (QM w G WF (some (mL r)) d m 0 0) d m 0 0 39 [mU, mU, mU] [] := by
  unfold fX0_round_39 at h
  refine v_ldc2 (n := (-1)) F dX0_round_39 q2346 rfl ⟨by decide, by decide⟩ ?_
  cases h
  cases (show _ = r from K)
  exact v_lret F dX0_round_42
theorem vm_X0_round {w : Wd} {l : Launch} {d m : Dt} {a1 a2 : Int} {r : Int} (hp : PB m 1 0) (h : fX0_round d a1 a2 = some r) : VM w l WF yX0_round cX0_round 3 (some .long) 2 43 0 0 d m [mA 1, mI a1, mI a2] (some (mL r)) d m := by
  obtain ⟨x, h, K⟩ : ∃ x, fX0_round d a1 a2 = some x ∧ x = r := ⟨_, h, rfl⟩
  refine VM.of (L := [mA 1, mI a1, mI a2]) (by decide +kernel) rfl (Nat.le_of_ble_eq_true rfl) fun G F _ => v_fact fun _ hX _ _ => ?_
  unfold fX0_round at h
  refine v_aload_n F dX0_round_0 rfl rfl ?_
  refine v_iload_n F dX0_round_1 rfl rfl ?_
  refine v_callVv (c := 0) F dX0_round_2 cv_X0_590 rfl (PB.ob hp hX (Nat.le_of_ble_eq_true rfl)) (Nat.le_of_ble_eq_true rfl) rfl (vm_X0_isRound hp) rfl (rOk.of rfl) ?_
  refine v_if_eq F dX0_round_5 rfl (fun hq1 => ?_) (fun hq1 => ?_)
  · rw [if_pos hq1] at h
    refine v_fgt (L' := [mU, mU, mU]) ⟨Or.inr rfl, Or.inr rfl, Or.inr rfl, trivial⟩ ?_
    exact fX0_round_39_ok F hX hp h K
  · rw [if_neg hq1] at h
    refine v_iload_n F dX0_round_8 rfl rfl ?_
    refine v_iconst F dX0_round_9 ⟨by decide, by decide⟩ ?_
    refine v_aload_n F dX0_round_10 rfl rfl ?_
    refine gf_X0_127 F dX0_round_11 hp (v := 79) rfl ?_
    refine gf_X0_593 F dX0_round_14 (ob_X0_35 hX hp) ?_
    refine v_iconst F dX0_round_17 ⟨by decide, by decide⟩ ?_
    refine v_isub F dX0_round_18 ?_
    refine v_callSv F dX0_round_19 cs_X0_163 rfl (vm_X0_within) rfl (rOk.of rfl) ?_
    refine v_if_eq F dX0_round_22 rfl (fun hq2 => ?_) (fun hq2 => ?_)
    · rw [if_pos hq2] at h
      refine v_fgt (L' := [mU, mU, mU]) ⟨Or.inr rfl, Or.inr rfl, Or.inr rfl, trivial⟩ ?_
      exact fX0_round_39_ok F hX hp h K
    · rw [if_neg hq2] at h
      refine v_aload_n F dX0_round_25 rfl rfl ?_
      refine gf_X0_127 F dX0_round_26 hp (v := 79) rfl ?_
      refine gf_X0_594 F dX0_round_29 (ob_X0_35 hX hp) (v := 206) rfl ?_
      refine v_iload_n F dX0_round_32 rfl rfl ?_
      obtain ⟨hi3, h⟩ := ck_some h
      refine v_aaldF (c := 8) (k := 14) F dX0_round_33 (ob_X0_35 hX hp) (Nat.le_of_ble_eq_true rfl) (Nat.le_of_ble_eq_true rfl) (by decide) (by decide) rfl (ar_X8_14 hX (ob_X0_35 hX hp)) (Nat.le_of_ble_eq_true rfl) rfl rfl rfl rfl hi3 (v := (207 + a1)) (by show 79 + 128 + 1 * a1 = _; omega) ?_
      refine v_iload_n F dX0_round_34 rfl rfl ?_
      obtain ⟨hi4, h⟩ := ck_some h
      refine v_lald F dX0_round_35 (ae_X8_14 (i := a1) hX (ob_X0_35 hX hp) hi3 (v := (207 + a1)) (by omega)) hi4 ?_
      refine v_goto F dX0_round_36 rfl ?_
      cases h
      cases (show _ = r from K)
      exact v_lret F dX0_round_42
theorem fX11_round_53_ok {w : Wd} {l : Launch} {G : Cx} {d m dd : Dt} {a1 a2 : Int} {r : Int} {x : Int} (F : Fx w G cX11_round RX11 3 (some .long) { frames := 1, cells := 0, slots := 0, locals := 25 }) (hX : WF dd m) (hp : PB m 1545 11) (h : fX11_round_53 d a1 a2 = some x) (K : (fun q => q = r) x) : V w l WF G (QM w G WF (some (mL r)) d m 0 0) d m 0 0 53 [mU, mU, mU] [] := by
  unfold fX11_round_53 at h
  refine v_ldc2 (n := (-1)) F dX11_round_53 q2492 rfl ⟨by decide, by decide⟩ ?_
  cases h
  cases (show _ = r from K)
  exact v_lret F dX11_round_56
theorem vm_X11_round {w : Wd} {l : Launch} {d m : Dt} {a1 a2 : Int} {r : Int} (hp : PB m 1545 11) (h : fX11_round d a1 a2 = some r) : VM w l WF yX11_round cX11_round 3 (some .long) 1 25 0 0 d m [mA 1545, mI a1, mI a2] (some (mL r)) d m := by
  obtain ⟨x, h, K⟩ : ∃ x, fX11_round d a1 a2 = some x ∧ x = r := ⟨_, h, rfl⟩
  refine VM.of (L := [mA 1545, mI a1, mI a2]) (by decide +kernel) rfl (Nat.le_of_ble_eq_true rfl) fun G F _ => v_fact fun _ hX _ _ => ?_
  unfold fX11_round at h
  refine v_aload_n F dX11_round_0 rfl rfl ?_
  refine gf_X11_558 F dX11_round_1 hp ?_
  refine v_if_eq F dX11_round_4 rfl (fun hq1 => ?_) (fun hq1 => ?_)
  · rw [if_pos hq1] at h
    refine v_fgt (L' := [mU, mU, mU]) ⟨Or.inr rfl, Or.inr rfl, Or.inr rfl, trivial⟩ ?_
    exact fX11_round_53_ok F hX hp h K
  · rw [if_neg hq1] at h
    refine v_iload_n F dX11_round_7 rfl rfl ?_
    refine v_i2l F dX11_round_8 ?_
    refine v_lconst0 F dX11_round_9 ?_
    refine v_aload_n F dX11_round_10 rfl rfl ?_
    refine gf_X11_817 F dX11_round_11 hp ?_
    refine v_iconst F dX11_round_14 ⟨by decide, by decide⟩ ?_
    refine v_isub F dX11_round_15 ?_
    refine v_i2l F dX11_round_16 ?_
    refine v_callSv F dX11_round_17 cs_X11_13 rfl (vm_X11_in) rfl (rOk.of rfl) ?_
    refine v_if_eq F dX11_round_20 rfl (fun hq2 => ?_) (fun hq2 => ?_)
    · rw [if_pos hq2] at h
      refine v_fgt (L' := [mU, mU, mU]) ⟨Or.inr rfl, Or.inr rfl, Or.inr rfl, trivial⟩ ?_
      exact fX11_round_53_ok F hX hp h K
    · rw [if_neg hq2] at h
      refine v_iload_n F dX11_round_23 rfl rfl ?_
      refine v_i2l F dX11_round_24 ?_
      refine v_lconst0 F dX11_round_25 ?_
      refine v_aload_n F dX11_round_26 rfl rfl ?_
      refine gf_X11_850 F dX11_round_27 hp ?_
      refine v_iconst F dX11_round_30 ⟨by decide, by decide⟩ ?_
      refine v_isub F dX11_round_31 ?_
      refine v_i2l F dX11_round_32 ?_
      refine v_callSv F dX11_round_33 cs_X11_13 rfl (vm_X11_in) rfl (rOk.of rfl) ?_
      refine v_if_eq F dX11_round_36 rfl (fun hq3 => ?_) (fun hq3 => ?_)
      · rw [if_pos hq3] at h
        refine v_fgt (L' := [mU, mU, mU]) ⟨Or.inr rfl, Or.inr rfl, Or.inr rfl, trivial⟩ ?_
        exact fX11_round_53_ok F hX hp h K
      · rw [if_neg hq3] at h
        refine v_aload_n F dX11_round_39 rfl rfl ?_
        refine gf_X11_814 F dX11_round_40 hp (v := 1623) rfl ?_
        refine v_bipush F dX11_round_43 rfl ⟨by decide, by decide⟩ ?_
        refine v_iload_n F dX11_round_45 rfl rfl ?_
        refine v_imul F dX11_round_46 ?_
        refine v_iload_n F dX11_round_47 rfl rfl ?_
        refine v_iadd F dX11_round_48 ?_
        obtain ⟨x4, ex4, h⟩ := lv_some h
        refine v_nI ex4 ?_
        obtain ⟨hi5, h⟩ := ck_some h
        refine v_lald F dX11_round_49 (ar_X11_117 hX hp) hi5 ?_
        refine v_goto F dX11_round_50 rfl ?_
        cases h
        cases (show _ = r from K)
        exact v_lret F dX11_round_56
theorem vm_X0_act {w : Wd} {l : Launch} {d m : Dt} {a1 a2 : Int} {r : Int} (hp : PB m 1 0) (h : fX0_act d a1 a2 = some r) : VM w l WF yX0_act cX0_act 3 (some .int) 2 43 0 0 d m [mA 1, mI a1, mI a2] (some (mI r)) d m := by
  obtain ⟨x, h, K⟩ : ∃ x, fX0_act d a1 a2 = some x ∧ x = r := ⟨_, h, rfl⟩
  refine VM.of (L := [mA 1, mI a1, mI a2]) (by decide +kernel) rfl (Nat.le_of_ble_eq_true rfl) fun G F _ => v_fact fun _ hX _ _ => ?_
  unfold fX0_act at h
  refine v_aload_n F dX0_act_0 rfl rfl ?_
  refine v_iload_n F dX0_act_1 rfl rfl ?_
  refine v_callVv (c := 0) F dX0_act_2 cv_X0_590 rfl (PB.ob hp hX (Nat.le_of_ble_eq_true rfl)) (Nat.le_of_ble_eq_true rfl) rfl (vm_X0_isRound hp) rfl (rOk.of rfl) ?_
  refine v_if_ne F dX0_act_5 rfl (fun hq1 => ?_) (fun hq1 => ?_)
  · rw [if_neg hq1] at h
    refine v_iload_n F dX0_act_12 rfl rfl ?_
    refine v_if_ne F dX0_act_13 rfl (fun hq2 => ?_) (fun hq2 => ?_)
    · rw [if_neg hq2] at h
      refine v_iload_n F dX0_act_28 rfl rfl ?_
      refine v_iconst F dX0_act_29 ⟨by decide, by decide⟩ ?_
      refine v_icmp_ne F dX0_act_30 rfl (fun hq3 => ?_) (fun hq3 => ?_)
      · rw [if_neg hq3] at h
        refine v_bipush F dX0_act_45 rfl ⟨by decide, by decide⟩ ?_
        cases h
        cases (show _ = r from K)
        exact v_iret F dX0_act_47
      · rw [if_pos hq3] at h
        refine v_aload_n F dX0_act_33 rfl rfl ?_
        refine gf_X0_127 F dX0_act_34 hp (v := 79) rfl ?_
        refine gf_X0_602 F dX0_act_37 (ob_X0_35 hX hp) (v := 248) rfl ?_
        refine v_iload_n F dX0_act_40 rfl rfl ?_
        obtain ⟨hi4, h⟩ := ck_some h
        refine v_iald F dX0_act_41 (ar_X8_16 hX (ob_X0_35 hX hp)) hi4 ?_
        refine v_goto F dX0_act_42 rfl ?_
        cases h
        cases (show _ = r from K)
        exact v_iret F dX0_act_47
    · rw [if_pos hq2] at h
      refine v_aload_n F dX0_act_16 rfl rfl ?_
      refine gf_X0_127 F dX0_act_17 hp (v := 79) rfl ?_
      refine gf_X0_599 F dX0_act_20 (ob_X0_35 hX hp) (v := 247) rfl ?_
      refine v_iload_n F dX0_act_23 rfl rfl ?_
      obtain ⟨hi5, h⟩ := ck_some h
      refine v_iald F dX0_act_24 (ar_X8_15 hX (ob_X0_35 hX hp)) hi5 ?_
      refine v_goto F dX0_act_25 rfl ?_
      cases h
      cases (show _ = r from K)
      exact v_iret F dX0_act_47
  · rw [if_pos hq1] at h
    refine v_iconst F dX0_act_8 ⟨by decide, by decide⟩ ?_
    refine v_goto F dX0_act_9 rfl ?_
    cases h
    cases (show _ = r from K)
    exact v_iret F dX0_act_47
theorem vm_X11_act {w : Wd} {l : Launch} {d m : Dt} {a1 a2 : Int} {r : Int} (hp : PB m 1545 11) (h : fX11_act d a1 a2 = some r) : VM w l WF yX11_act cX11_act 3 (some .int) 1 25 0 0 d m [mA 1545, mI a1, mI a2] (some (mI r)) d m := by
  obtain ⟨x, h, K⟩ : ∃ x, fX11_act d a1 a2 = some x ∧ x = r := ⟨_, h, rfl⟩
  refine VM.of (L := [mA 1545, mI a1, mI a2]) (by decide +kernel) rfl (Nat.le_of_ble_eq_true rfl) fun G F _ => v_fact fun _ hX _ _ => ?_
  unfold fX11_act at h
  refine v_aload_n F dX11_act_0 rfl rfl ?_
  refine gf_X11_558 F dX11_act_1 hp ?_
  refine v_if_eq F dX11_act_4 rfl (fun hq1 => ?_) (fun hq1 => ?_)
  · rw [if_pos hq1] at h
    refine v_iconst F dX11_act_23 ⟨by decide, by decide⟩ ?_
    cases h
    cases (show _ = r from K)
    exact v_iret F dX11_act_24
  · rw [if_neg hq1] at h
    refine v_iload_n F dX11_act_7 rfl rfl ?_
    refine v_i2l F dX11_act_8 ?_
    refine v_lconst0 F dX11_act_9 ?_
    refine v_aload_n F dX11_act_10 rfl rfl ?_
    refine gf_X11_817 F dX11_act_11 hp ?_
    refine v_iconst F dX11_act_14 ⟨by decide, by decide⟩ ?_
    refine v_isub F dX11_act_15 ?_
    refine v_i2l F dX11_act_16 ?_
    refine v_callSv F dX11_act_17 cs_X11_13 rfl (vm_X11_in) rfl (rOk.of rfl) ?_
    refine v_if_ne F dX11_act_20 rfl (fun hq2 => ?_) (fun hq2 => ?_)
    · rw [if_neg hq2] at h
      refine v_iload_n F dX11_act_25 rfl rfl ?_
      refine v_if_ne F dX11_act_26 rfl (fun hq3 => ?_) (fun hq3 => ?_)
      · rw [if_neg hq3] at h
        refine v_iload_n F dX11_act_38 rfl rfl ?_
        refine v_iconst F dX11_act_39 ⟨by decide, by decide⟩ ?_
        refine v_icmp_ne F dX11_act_40 rfl (fun hq4 => ?_) (fun hq4 => ?_)
        · rw [if_neg hq4] at h
          refine v_bipush F dX11_act_52 rfl ⟨by decide, by decide⟩ ?_
          cases h
          cases (show _ = r from K)
          exact v_iret F dX11_act_54
        · rw [if_pos hq4] at h
          refine v_aload_n F dX11_act_43 rfl rfl ?_
          refine gf_X11_823 F dX11_act_44 hp (v := 1625) rfl ?_
          refine v_iload_n F dX11_act_47 rfl rfl ?_
          obtain ⟨hi5, h⟩ := ck_some h
          refine v_iald F dX11_act_48 (ar_X11_119 hX hp) hi5 ?_
          refine v_goto F dX11_act_49 rfl ?_
          cases h
          cases (show _ = r from K)
          exact v_iret F dX11_act_54
      · rw [if_pos hq3] at h
        refine v_aload_n F dX11_act_29 rfl rfl ?_
        refine gf_X11_820 F dX11_act_30 hp (v := 1624) rfl ?_
        refine v_iload_n F dX11_act_33 rfl rfl ?_
        obtain ⟨hi6, h⟩ := ck_some h
        refine v_iald F dX11_act_34 (ar_X11_118 hX hp) hi6 ?_
        refine v_goto F dX11_act_35 rfl ?_
        cases h
        cases (show _ = r from K)
        exact v_iret F dX11_act_54
    · rw [if_pos hq2] at h
      refine v_iconst F dX11_act_23 ⟨by decide, by decide⟩ ?_
      cases h
      cases (show _ = r from K)
      exact v_iret F dX11_act_24
def fX0_gather_4P (w : Wd) (l : Launch) (G : Cx) (Q : State → Prop) (m : Dt) (d : Dt) (a1 : Int) (s : Int × Int) : Prop := V w l WF G Q d m 0 0 4 [mA 1, mI a1, mI (s.1), mI (s.2), mU, mU] []
def fX0_gather_21P (w : Wd) (l : Launch) (G : Cx) (Q : State → Prop) (m : Dt) (d : Dt) (a1 v3 v4 : Int) (s : Int × Int) : Prop := V w l WF G Q d m 0 0 21 [mA 1, mI a1, mI (s.1), mI v3, mA v4, mI (s.2)] []
theorem fX0_gather_21f_ok {w : Wd} {l : Launch} {G : Cx} {d m dd : Dt} {a1 v3 v4 : Int} {r : Int} {s : Int × Int} {x : ((Int × Int) ⊕ ((Int × Int) ⊕ Int))} (F : Fx w G cX0_gather RX0 6 (some .int) { frames := 0, cells := 0, slots := 0, locals := 0 }) (hX : WF dd m) (hp : PB m 1 0) (hv4 : PB m v4 10) (h : fX0_gather_21f d a1 v3 v4 s = some x) (K : (Sum.elim (fX0_gather_21P w l G (QM w G WF (some (mI r)) d m 0 0) m d a1 v3 v4) (Sum.elim (fX0_gather_4P w l G (QM w G WF (some (mI r)) d m 0 0) m d a1) (fun q => q = r))) x) : V w l WF G (QM w G WF (some (mI r)) d m 0 0) d m 0 0 21 [mA 1, mI a1, mI (s.1), mI v3, mA v4, mI (s.2)] [] := by
  obtain ⟨v2, v5⟩ := s
  unfold fX0_gather_21f at h
  dsimp only at h
  refine v_iload F dX0_gather_21 rfl ?_
  refine v_aload F dX0_gather_23 rfl ?_
  refine gf_X0_532 F dX0_gather_25 hv4 ?_
  refine v_icmp_ge F dX0_gather_28 rfl (fun hq4 => ?_) (fun hq4 => ?_)
  · rw [if_pos hq4] at h
    obtain ⟨z, hu, ez⟩ := up_some h
    clear h
    subst ez
    have h := hu
    clear hu
    obtain ⟨x5, ex5, h⟩ := lv_some h
    refine v_iincN F dX0_gather_60 (Nat.le_of_ble_eq_true rfl) rfl ex5 (L' := [mA 1, mI a1, mI v2, mI x5, mA v4, mI v5]) rfl ?_
    refine v_goto F dX0_gather_63 rfl ?_
    cases h
    refine v_fgt (L' := [mA 1, mI a1, mI v2, mI x5, mU, mU]) ⟨Or.inl rfl, Or.inl rfl, Or.inl rfl, Or.inl rfl, Or.inr rfl, Or.inr rfl, trivial⟩ ?_
    exact K
  · rw [if_neg hq4] at h
    refine v_aload F dX0_gather_31 rfl ?_
    refine gf_X0_535 F dX0_gather_33 hv4 ?_
    refine v_if_ne F dX0_gather_36 rfl (fun hq6 => ?_) (fun hq6 => ?_)
    · rw [if_neg hq6] at h
      obtain ⟨z, hu, ez⟩ := up_some h
      clear h
      subst ez
      have h := hu
      clear hu
      obtain ⟨x7, ex7, h⟩ := lv_some h
      refine v_iincN F dX0_gather_60 (Nat.le_of_ble_eq_true rfl) rfl ex7 (L' := [mA 1, mI a1, mI v2, mI x7, mA v4, mI v5]) rfl ?_
      refine v_goto F dX0_gather_63 rfl ?_
      cases h
      refine v_fgt (L' := [mA 1, mI a1, mI v2, mI x7, mU, mU]) ⟨Or.inl rfl, Or.inl rfl, Or.inl rfl, Or.inl rfl, Or.inr rfl, Or.inr rfl, trivial⟩ ?_
      exact K
    · rw [if_pos hq6] at h
      refine v_iload_n F dX0_gather_39 rfl rfl ?_
      refine v_aload F dX0_gather_40 rfl ?_
      refine gf_X0_537 F dX0_gather_42 hv4 (v := (v4 + 1)) rfl ?_
      refine v_iload F dX0_gather_45 rfl ?_
      obtain ⟨hi8, h⟩ := ck_some h
      refine v_iald F dX0_gather_47 (ar_X10_0 hX hv4) hi8 ?_
      refine v_iload_n F dX0_gather_48 rfl rfl ?_
      refine v_ishr F dX0_gather_49 ?_
      refine v_iconst F dX0_gather_50 ⟨by decide, by decide⟩ ?_
      refine v_iand F dX0_gather_51 ?_
      refine v_iadd F dX0_gather_52 ?_
      obtain ⟨x9, ex9, h⟩ := lv_some h
      refine v_nI ex9 ?_
      refine v_istore_n F dX0_gather_53 rfl (Nat.le_of_ble_eq_true rfl) (L' := [mA 1, mI a1, mI x9, mI v3, mA v4, mI v5]) rfl ?_
      obtain ⟨x10, ex10, h⟩ := lv_some h
      refine v_iincN F dX0_gather_54 (Nat.le_of_ble_eq_true rfl) rfl ex10 (L' := [mA 1, mI a1, mI x9, mI v3, mA v4, mI x10]) rfl ?_
      refine v_goto F dX0_gather_57 rfl ?_
      cases h
      exact K
theorem fX0_gather_21_ok {w : Wd} {l : Launch} {G : Cx} {d m dd : Dt} {a1 v2 v3 v4 v5 : Int} {r : Int} {x : ((Int × Int) ⊕ Int)} (F : Fx w G cX0_gather RX0 6 (some .int) { frames := 0, cells := 0, slots := 0, locals := 0 }) (hX : WF dd m) (hp : PB m 1 0) (hv4 : PB m v4 10) (h : fX0_gather_21 d a1 v2 v3 v4 v5 = some x) (K : (Sum.elim (fX0_gather_4P w l G (QM w G WF (some (mI r)) d m 0 0) m d a1) (fun q => q = r)) x) : V w l WF G (QM w G WF (some (mI r)) d m 0 0) d m 0 0 21 [mA 1, mI a1, mI v2, mI v3, mA v4, mI v5] [] := by
  unfold fX0_gather_21 at h
  exact loop_ok (P := fX0_gather_21P w l G (QM w G WF (some (mI r)) d m 0 0) m d a1 v3 v4) (fun s x hx h1 h2 => fX0_gather_21f_ok F hX hp hv4 hx (by
    cases x with
    | inl s' => exact h1 s' rfl
    | inr z => cases h2 z rfl; exact K)) h
theorem fX0_gather_4f_ok {w : Wd} {l : Launch} {G : Cx} {d m dd : Dt} {a1 : Int} {r : Int} {s : Int × Int} {x : ((Int × Int) ⊕ Int)} (F : Fx w G cX0_gather RX0 6 (some .int) { frames := 0, cells := 0, slots := 0, locals := 0 }) (hX : WF dd m) (hp : PB m 1 0) (h : fX0_gather_4f d a1 s = some x) (K : (Sum.elim (fX0_gather_4P w l G (QM w G WF (some (mI r)) d m 0 0) m d a1) (fun q => q = r)) x) : V w l WF G (QM w G WF (some (mI r)) d m 0 0) d m 0 0 4 [mA 1, mI a1, mI (s.1), mI (s.2), mU, mU] [] := by
  obtain ⟨v2, v3⟩ := s
  unfold fX0_gather_4f at h
  dsimp only at h
  refine v_iload_n F dX0_gather_4 rfl rfl ?_
  refine v_bipush F dX0_gather_5 rfl ⟨by decide, by decide⟩ ?_
  refine v_icmp_gt F dX0_gather_7 rfl (fun hq1 => ?_) (fun hq1 => ?_)
  · rw [if_pos hq1] at h
    obtain ⟨z, hu, ez⟩ := up_some h
    clear h
    subst ez
    have h := hu
    clear hu
    refine v_iload_n F dX0_gather_66 rfl rfl ?_
    cases h
    cases (show _ = r from K)
    exact v_iret F dX0_gather_67
  · rw [if_neg hq1] at h
    refine v_aload_n F dX0_gather_10 rfl rfl ?_
    refine gf_X0_120 F dX0_gather_11 hp (v := 78) rfl ?_
    refine v_iload_n F dX0_gather_14 rfl rfl ?_
    obtain ⟨hi2, h⟩ := ck_some h
    refine v_aaldF (c := 0) (k := 34) F dX0_gather_15 hp (Nat.le_of_ble_eq_true rfl) (Nat.le_of_ble_eq_true rfl) (by decide) (by decide) rfl (ar_X0_34 hX hp) (Nat.le_of_ble_eq_true rfl) rfl rfl rfl rfl hi2 (v := (677 + 124 * v3)) (by show 1 + 676 + 124 * v3 = _; omega) ?_
    obtain ⟨x3, ex3, h⟩ := lv_some h
    refine v_nA ex3 ?_
    have x3p : PB m x3 10 := by rw [ex3]; exact (ae_X0_34 (i := v3) hX hp hi2 (v := (677 + 124 * v3)) (by omega))
    refine v_astore F dX0_gather_16 (Nat.le_of_ble_eq_true rfl) (L' := [mA 1, mI a1, mI v2, mI v3, mA x3, mU]) rfl ?_
    refine v_iconst F dX0_gather_18 ⟨by decide, by decide⟩ ?_
    refine v_istore F dX0_gather_19 (Nat.le_of_ble_eq_true rfl) (L' := [mA 1, mI a1, mI v2, mI v3, mA x3, mI 0]) rfl ?_
    exact fX0_gather_21_ok F hX hp x3p h K
theorem fX0_gather_4_ok {w : Wd} {l : Launch} {G : Cx} {d m dd : Dt} {a1 v2 v3 : Int} {r : Int} {x : Int} (F : Fx w G cX0_gather RX0 6 (some .int) { frames := 0, cells := 0, slots := 0, locals := 0 }) (hX : WF dd m) (hp : PB m 1 0) (h : fX0_gather_4 d a1 v2 v3 = some x) (K : (fun q => q = r) x) : V w l WF G (QM w G WF (some (mI r)) d m 0 0) d m 0 0 4 [mA 1, mI a1, mI v2, mI v3, mU, mU] [] := by
  unfold fX0_gather_4 at h
  exact loop_ok (P := fX0_gather_4P w l G (QM w G WF (some (mI r)) d m 0 0) m d a1) (fun s x hx h1 h2 => fX0_gather_4f_ok F hX hp hx (by
    cases x with
    | inl s' => exact h1 s' rfl
    | inr z => cases h2 z rfl; exact K)) h
theorem vm_X0_gather {w : Wd} {l : Launch} {d m : Dt} {a1 : Int} {r : Int} (hp : PB m 1 0) (h : fX0_gather d a1 = some r) : VM w l WF yX0_gather cX0_gather 6 (some .int) 0 0 0 0 d m [mA 1, mI a1] (some (mI r)) d m := by
  obtain ⟨x, h, K⟩ : ∃ x, fX0_gather d a1 = some x ∧ x = r := ⟨_, h, rfl⟩
  refine VM.of (L := [mA 1, mI a1, mU, mU, mU, mU]) (by decide +kernel) rfl (Nat.le_of_ble_eq_true rfl) fun G F _ => v_fact fun _ hX _ _ => ?_
  unfold fX0_gather at h
  refine v_iconst F dX0_gather_0 ⟨by decide, by decide⟩ ?_
  refine v_istore_n F dX0_gather_1 rfl (Nat.le_of_ble_eq_true rfl) (L' := [mA 1, mI a1, mI 0, mU, mU, mU]) rfl ?_
  refine v_iconst F dX0_gather_2 ⟨by decide, by decide⟩ ?_
  refine v_istore_n F dX0_gather_3 rfl (Nat.le_of_ble_eq_true rfl) (L' := [mA 1, mI a1, mI 0, mI 0, mU, mU]) rfl ?_
  exact fX0_gather_4_ok F hX hp h K
def fX0_margin_15P (w : Wd) (l : Launch) (G : Cx) (Q : State → Prop) (m : Dt) (d : Dt) (a1 : Int) (s : Int × Int) : Prop := V w l WF G Q d m 0 0 15 [mA 1, mU, mL (s.1), mU, mI (s.2)] []
theorem fX0_margin_71_ok {w : Wd} {l : Launch} {G : Cx} {d m dd : Dt} {a1 v4 s0 : Int} {d' : Dt} {r : Int} {x : ((Int × Int) ⊕ (Dt × Int))} (F : Fx w G cX0_margin RX0 5 (some .int) { frames := 7, cells := 0, slots := 0, locals := 168 }) (hX : WF dd m) (hp : PB m 1 0) (h : fX0_margin_71 d a1 v4 s0 = some x) (K : (Sum.elim (fX0_margin_15P w l G (QM w G WF (some (mI r)) d' m 0 0) m d a1) (fun q => q = (d', r))) x) : V w l WF G (QM w G WF (some (mI r)) d' m 0 0) d m 0 0 71 [mA 1, mU, mU, mU, mI v4] [mL s0] := by
  unfold fX0_margin_71 at h
  refine v_lstore_n F dX0_margin_71 rfl (Nat.le_of_ble_eq_true rfl) (L' := [mA 1, mU, mL s0, mU, mI v4]) rfl ?_
  obtain ⟨x10, ex10, h⟩ := lv_some h
  refine v_iincN F dX0_margin_72 (Nat.le_of_ble_eq_true rfl) rfl ex10 (L' := [mA 1, mU, mL s0, mU, mI x10]) rfl ?_
  refine v_goto F dX0_margin_75 rfl ?_
  cases h
  exact K
theorem fX0_margin_15f_ok {w : Wd} {l : Launch} {G : Cx} {d m dd : Dt} {a1 : Int} {d' : Dt} {r : Int} {s : Int × Int} {x : ((Int × Int) ⊕ (Dt × Int))} (F : Fx w G cX0_margin RX0 5 (some .int) { frames := 7, cells := 0, slots := 0, locals := 168 }) (hX : WF dd m) (hp : PB m 1 0) (h : fX0_margin_15f d a1 s = some x) (K : (Sum.elim (fX0_margin_15P w l G (QM w G WF (some (mI r)) d' m 0 0) m d a1) (fun q => q = (d', r))) x) : V w l WF G (QM w G WF (some (mI r)) d' m 0 0) d m 0 0 15 [mA 1, mU, mL (s.1), mU, mI (s.2)] [] := by
  obtain ⟨v2, v4⟩ := s
  unfold fX0_margin_15f at h
  dsimp only at h
  refine v_iload F dX0_margin_15 rfl ?_
  refine v_aload_n F dX0_margin_17 rfl rfl ?_
  refine gf_X0_131 F dX0_margin_18 hp (v := 321) rfl ?_
  refine gf_X0_593 F dX0_margin_21 (ob_X0_36 hX hp) ?_
  refine v_icmp_ge F dX0_margin_24 rfl (fun hq3 => ?_) (fun hq3 => ?_)
  · rw [if_pos hq3] at h
    obtain ⟨z, hu, ez⟩ := up_some h
    clear h
    subst ez
    have h := hu
    clear hu
    refine v_aload_n F dX0_margin_78 rfl rfl ?_
    refine gf_X0_131 F dX0_margin_79 hp (v := 321) rfl ?_
    refine gf_X0_614 F dX0_margin_82 (ob_X0_36 hX hp) (v := 447) rfl ?_
    refine v_aload_n F dX0_margin_85 rfl rfl ?_
    refine gf_X0_131 F dX0_margin_86 hp (v := 321) rfl ?_
    refine gf_X0_571 F dX0_margin_89 (ob_X0_36 hX hp) (v := 491) rfl ?_
    refine v_aload_n F dX0_margin_92 rfl rfl ?_
    refine gf_X0_131 F dX0_margin_93 hp (v := 321) rfl ?_
    refine gf_X0_568 F dX0_margin_96 (ob_X0_36 hX hp) ?_
    refine v_iconst F dX0_margin_99 ⟨by decide, by decide⟩ ?_
    refine v_isub F dX0_margin_100 ?_
    obtain ⟨x4, ex4, h⟩ := lv_some h
    refine v_nI ex4 ?_
    obtain ⟨hi5, h⟩ := ck_some h
    refine v_iald F dX0_margin_101 (ar_X8_18 hX (ob_X0_36 hX hp)) hi5 ?_
    obtain ⟨x6, ex6, h⟩ := lv_some h
    refine v_nI ex6 ?_
    obtain ⟨hi7, h⟩ := ck_some h
    refine v_lald F dX0_margin_102 (ar_X8_13 hX (ob_X0_36 hX hp)) hi7 ?_
    refine v_lload_n F dX0_margin_103 rfl rfl ?_
    refine v_lsub F dX0_margin_104 ?_
    refine v_l2i F dX0_margin_105 ?_
    cases h
    cases (show _ = (d', r) from K)
    exact v_iret F dX0_margin_106
  · rw [if_neg hq3] at h
    refine v_aload_n F dX0_margin_27 rfl rfl ?_
    refine gf_X0_131 F dX0_margin_28 hp (v := 321) rfl ?_
    refine gf_X0_609 F dX0_margin_31 (ob_X0_36 hX hp) (v := 322) rfl ?_
    refine v_iload F dX0_margin_34 rfl ?_
    obtain ⟨hi8, h⟩ := ck_some h
    refine v_zald F dX0_margin_36 (ar_X8_4 hX (ob_X0_36 hX hp)) hi8 ?_
    refine v_if_eq F dX0_margin_37 rfl (fun hq9 => ?_) (fun hq9 => ?_)
    · rw [if_pos hq9] at h
      refine v_lload_n F dX0_margin_70 rfl rfl ?_
      refine v_fgt (L' := [mA 1, mU, mU, mU, mI v4]) ⟨Or.inl rfl, Or.inl rfl, Or.inr rfl, Or.inl rfl, Or.inl rfl, trivial⟩ ?_
      exact fX0_margin_71_ok F hX hp h K
    · rw [if_neg hq9] at h
      refine v_aload_n F dX0_margin_40 rfl rfl ?_
      refine gf_X0_131 F dX0_margin_41 hp (v := 321) rfl ?_
      refine gf_X0_611 F dX0_margin_44 (ob_X0_36 hX hp) (v := 492) rfl ?_
      refine v_iload F dX0_margin_47 rfl ?_
      refine v_zald F dX0_margin_49 (ar_X8_20 hX (ob_X0_36 hX hp)) hi8 ?_
      refine v_if_ne F dX0_margin_50 rfl (fun hq11 => ?_) (fun hq11 => ?_)
      · rw [if_neg hq11] at h
        refine v_lload_n F dX0_margin_70 rfl rfl ?_
        refine v_fgt (L' := [mA 1, mU, mU, mU, mI v4]) ⟨Or.inl rfl, Or.inl rfl, Or.inr rfl, Or.inl rfl, Or.inl rfl, trivial⟩ ?_
        exact fX0_margin_71_ok F hX hp h K
      · rw [if_pos hq11] at h
        refine v_lload_n F dX0_margin_53 rfl rfl ?_
        refine v_aload_n F dX0_margin_54 rfl rfl ?_
        refine gf_X0_131 F dX0_margin_55 hp (v := 321) rfl ?_
        refine gf_X0_614 F dX0_margin_58 (ob_X0_36 hX hp) (v := 447) rfl ?_
        refine v_iload F dX0_margin_61 rfl ?_
        refine v_lald F dX0_margin_63 (ar_X8_13 hX (ob_X0_36 hX hp)) hi8 ?_
        refine v_callSv F dX0_margin_64 cs_X0_618 rfl (vm_J9_max_2) rfl (rOk.of rfl) ?_
        refine v_goto F dX0_margin_67 rfl ?_
        refine v_fgt (L' := [mA 1, mU, mU, mU, mI v4]) ⟨Or.inl rfl, Or.inl rfl, Or.inr rfl, Or.inl rfl, Or.inl rfl, trivial⟩ ?_
        exact fX0_margin_71_ok F hX hp h K
theorem fX0_margin_15_ok {w : Wd} {l : Launch} {G : Cx} {d m dd : Dt} {a1 v2 v4 : Int} {d' : Dt} {r : Int} {x : (Dt × Int)} (F : Fx w G cX0_margin RX0 5 (some .int) { frames := 7, cells := 0, slots := 0, locals := 168 }) (hX : WF dd m) (hp : PB m 1 0) (h : fX0_margin_15 d a1 v2 v4 = some x) (K : (fun q => q = (d', r)) x) : V w l WF G (QM w G WF (some (mI r)) d' m 0 0) d m 0 0 15 [mA 1, mU, mL v2, mU, mI v4] [] := by
  unfold fX0_margin_15 at h
  exact loop_ok (P := fX0_margin_15P w l G (QM w G WF (some (mI r)) d' m 0 0) m d a1) (fun s x hx h1 h2 => fX0_margin_15f_ok F hX hp hx (by
    cases x with
    | inl s' => exact h1 s' rfl
    | inr z => cases h2 z rfl; exact K)) h
theorem vm_X0_margin {w : Wd} {l : Launch} {d m : Dt} {a1 : Int} {d' : Dt} {r : Int} (hp : PB m 1 0) (h : fX0_margin d a1 = some (d', r)) : VM w l WF yX0_margin cX0_margin 5 (some .int) 7 168 0 0 d m [mA 1, mI a1] (some (mI r)) d' m := by
  obtain ⟨x, h, K⟩ : ∃ x, fX0_margin d a1 = some x ∧ x = (d', r) := ⟨_, h, rfl⟩
  refine VM.of (L := [mA 1, mI a1, mU, mU, mU]) (by decide +kernel) rfl (Nat.le_of_ble_eq_true rfl) fun G F _ => v_fact fun _ hX _ _ => ?_
  unfold fX0_margin at h
  refine v_aload_n F dX0_margin_0 rfl rfl ?_
  refine v_aload_n F dX0_margin_1 rfl rfl ?_
  refine gf_X0_131 F dX0_margin_2 hp (v := 321) rfl ?_
  refine v_iload_n F dX0_margin_5 rfl rfl ?_
  refine v_iconst F dX0_margin_6 ⟨by decide, by decide⟩ ?_
  obtain ⟨d1, hc2, h⟩ := bd_some h
  refine v_callV0 (c := 0) F dX0_margin_7 cv_X0_564 rfl (PB.ob hp hX (Nat.le_of_ble_eq_true rfl)) (Nat.le_of_ble_eq_true rfl) rfl (vm_X0_countOne hp (ob_X0_36 hX hp) hc2) rfl (rOk.of rfl) ?_
  refine v_lconst0 F dX0_margin_10 ?_
  refine v_lstore_n F dX0_margin_11 rfl (Nat.le_of_ble_eq_true rfl) (L' := [mA 1, mI a1, mL 0, mU, mU]) rfl ?_
  refine v_iconst F dX0_margin_12 ⟨by decide, by decide⟩ ?_
  refine v_istore F dX0_margin_13 (Nat.le_of_ble_eq_true rfl) (L' := [mA 1, mI a1, mL 0, mU, mI 0]) rfl ?_
  refine v_fgt (L' := [mA 1, mU, mL 0, mU, mI 0]) ⟨Or.inl rfl, Or.inr rfl, Or.inl rfl, Or.inl rfl, Or.inl rfl, trivial⟩ ?_
  exact fX0_margin_15_ok F hX hp h K
def fX0_isOther_20P (w : Wd) (l : Launch) (G : Cx) (Q : State → Prop) (m : Dt) (d : Dt) (a1 a2 a3 v4 : Int) (s : Int × Int) : Prop := V w l WF G Q d m 0 0 20 [mA 1, mA a1, mI a2, mI a3, mI v4, mI (s.1), mI (s.2)] []
theorem fX0_isOther_65_ok {w : Wd} {l : Launch} {G : Cx} {d m dd : Dt} {a1 a2 a3 v4 v6 s0 s1 : Int} {r : Int} {x : ((Int × Int) ⊕ Int)} (F : Fx w G cX0_isOther RX0 7 (some .boolean) { frames := 2, cells := 0, slots := 0, locals := 45 }) (hX : WF dd m) (hp : PB m 1 0) (hp1 : PB m a1 10) (h : fX0_isOther_65 d a1 a2 a3 v4 v6 s0 s1 = some x) (K : (Sum.elim (fX0_isOther_20P w l G (QM w G WF (some (mI r)) d m 0 0) m d a1 a2 a3 v4) (fun q => q = r)) x) : V w l WF G (QM w G WF (some (mI r)) d m 0 0) d m 0 0 65 [mA 1, mA a1, mI a2, mI a3, mI v4, mU, mI v6] [mI s1, mI s0] := by
  unfold fX0_isOther_65 at h
  refine v_ior F dX0_isOther_65 ?_
  obtain ⟨x9, ex9, h⟩ := lv_some h
  refine v_nI ex9 ?_
  refine v_istore F dX0_isOther_66 (Nat.le_of_ble_eq_true rfl) (L' := [mA 1, mA a1, mI a2, mI a3, mI v4, mI x9, mI v6]) rfl ?_
  obtain ⟨x10, ex10, h⟩ := lv_some h
  refine v_iincN F dX0_isOther_68 (Nat.le_of_ble_eq_true rfl) rfl ex10 (L' := [mA 1, mA a1, mI a2, mI a3, mI v4, mI x9, mI x10]) rfl ?_
  refine v_goto F dX0_isOther_71 rfl ?_
  cases h
  exact K
theorem fX0_isOther_20f_ok {w : Wd} {l : Launch} {G : Cx} {d m dd : Dt} {a1 a2 a3 v4 : Int} {r : Int} {s : Int × Int} {x : ((Int × Int) ⊕ Int)} (F : Fx w G cX0_isOther RX0 7 (some .boolean) { frames := 2, cells := 0, slots := 0, locals := 45 }) (hX : WF dd m) (hp : PB m 1 0) (hp1 : PB m a1 10) (h : fX0_isOther_20f d a1 a2 a3 v4 s = some x) (K : (Sum.elim (fX0_isOther_20P w l G (QM w G WF (some (mI r)) d m 0 0) m d a1 a2 a3 v4) (fun q => q = r)) x) : V w l WF G (QM w G WF (some (mI r)) d m 0 0) d m 0 0 20 [mA 1, mA a1, mI a2, mI a3, mI v4, mI (s.1), mI (s.2)] [] := by
  obtain ⟨v5, v6⟩ := s
  unfold fX0_isOther_20f at h
  dsimp only at h
  refine v_iload F dX0_isOther_20 rfl ?_
  refine v_iload F dX0_isOther_22 rfl ?_
  refine v_aload_n F dX0_isOther_24 rfl rfl ?_
  refine gf_X0_62 F dX0_isOther_25 hp (v := 57) rfl ?_
  refine v_iload_n F dX0_isOther_28 rfl rfl ?_
  obtain ⟨hi4, h⟩ := ck_some h
  refine v_aaldF (c := 0) (k := 13) F dX0_isOther_29 hp (Nat.le_of_ble_eq_true rfl) (Nat.le_of_ble_eq_true rfl) (by decide) (by decide) rfl (ar_X0_13 hX hp) (Nat.le_of_ble_eq_true rfl) rfl rfl rfl rfl hi4 (v := (629 + 8 * a3)) (by show 1 + 628 + 8 * a3 = _; omega) ?_
  refine gf_X0_317 F dX0_isOther_30 (ae_X0_13 (i := a3) hX hp hi4 (v := (629 + 8 * a3)) (by omega)) ?_
  refine v_iadd F dX0_isOther_33 ?_
  refine v_icmp_ge F dX0_isOther_34 rfl (fun hq5 => ?_) (fun hq5 => ?_)
  · rw [if_pos hq5] at h
    obtain ⟨z, hu, ez⟩ := up_some h
    clear h
    subst ez
    have h := hu
    clear hu
    refine v_iload F dX0_isOther_74 rfl ?_
    obtain ⟨hb, h⟩ := ck_some h
    cases h
    cases (show _ = r from K)
    exact v_zret F hb dX0_isOther_76
  · rw [if_neg hq5] at h
    refine v_iload F dX0_isOther_37 rfl ?_
    refine v_aload_n F dX0_isOther_39 rfl rfl ?_
    refine gf_X0_546 F dX0_isOther_40 hp1 (v := (a1 + 63)) rfl ?_
    refine v_iload_n F dX0_isOther_43 rfl rfl ?_
    obtain ⟨hi6, h⟩ := ck_some h
    refine v_aaldF (c := 10) (k := 2) F dX0_isOther_44 hp1 (Nat.le_of_ble_eq_true rfl) (Nat.le_of_ble_eq_true rfl) (by decide) (by decide) rfl (ar_X10_2 hX hp1) (Nat.le_of_ble_eq_true rfl) rfl rfl rfl rfl hi6 (v := ((a1 + 64) + a2)) (by show a1 + 64 + 1 * a2 = _; omega) ?_
    refine v_iload F dX0_isOther_45 rfl ?_
    obtain ⟨hi7, h⟩ := ck_some h
    refine v_bald F dX0_isOther_47 (ae_X10_2 (i := a2) hX hp1 hi6 (v := ((a1 + 64) + a2)) (by omega)) hi7 ?_
    refine v_aload_n F dX0_isOther_48 rfl rfl ?_
    refine gf_X0_543 F dX0_isOther_49 hp1 (v := (a1 + 2)) rfl ?_
    refine v_iload_n F dX0_isOther_52 rfl rfl ?_
    refine v_aaldF (c := 10) (k := 1) F dX0_isOther_53 hp1 (Nat.le_of_ble_eq_true rfl) (Nat.le_of_ble_eq_true rfl) (by decide) (by decide) rfl (ar_X10_1 hX hp1) (Nat.le_of_ble_eq_true rfl) rfl rfl rfl rfl hi6 (v := ((a1 + 3) + a2)) (by show a1 + 3 + 1 * a2 = _; omega) ?_
    refine v_iload F dX0_isOther_54 rfl ?_
    refine v_bald F dX0_isOther_56 (ae_X10_1 (i := a2) hX hp1 hi6 (v := ((a1 + 3) + a2)) (by omega)) hi7 ?_
    refine v_icmp_eq F dX0_isOther_57 rfl (fun hq8 => ?_) (fun hq8 => ?_)
    · rw [if_pos hq8] at h
      refine v_iconst F dX0_isOther_64 ⟨by decide, by decide⟩ ?_
      refine v_fgt (L' := [mA 1, mA a1, mI a2, mI a3, mI v4, mU, mI v6]) ⟨Or.inl rfl, Or.inl rfl, Or.inl rfl, Or.inl rfl, Or.inl rfl, Or.inr rfl, Or.inl rfl, trivial⟩ ?_
      exact fX0_isOther_65_ok F hX hp hp1 h K
    · rw [if_neg hq8] at h
      refine v_iconst F dX0_isOther_60 ⟨by decide, by decide⟩ ?_
      refine v_goto F dX0_isOther_61 rfl ?_
      refine v_fgt (L' := [mA 1, mA a1, mI a2, mI a3, mI v4, mU, mI v6]) ⟨Or.inl rfl, Or.inl rfl, Or.inl rfl, Or.inl rfl, Or.inl rfl, Or.inr rfl, Or.inl rfl, trivial⟩ ?_
      exact fX0_isOther_65_ok F hX hp hp1 h K
theorem fX0_isOther_20_ok {w : Wd} {l : Launch} {G : Cx} {d m dd : Dt} {a1 a2 a3 v4 v5 v6 : Int} {r : Int} {x : Int} (F : Fx w G cX0_isOther RX0 7 (some .boolean) { frames := 2, cells := 0, slots := 0, locals := 45 }) (hX : WF dd m) (hp : PB m 1 0) (hp1 : PB m a1 10) (h : fX0_isOther_20 d a1 a2 a3 v4 v5 v6 = some x) (K : (fun q => q = r) x) : V w l WF G (QM w G WF (some (mI r)) d m 0 0) d m 0 0 20 [mA 1, mA a1, mI a2, mI a3, mI v4, mI v5, mI v6] [] := by
  unfold fX0_isOther_20 at h
  exact loop_ok (P := fX0_isOther_20P w l G (QM w G WF (some (mI r)) d m 0 0) m d a1 a2 a3 v4) (fun s x hx h1 h2 => fX0_isOther_20f_ok F hX hp hp1 hx (by
    cases x with
    | inl s' => exact h1 s' rfl
    | inr z => cases h2 z rfl; exact K)) h
theorem vm_X0_isOther {w : Wd} {l : Launch} {d m : Dt} {a1 a2 a3 : Int} {r : Int} (hp : PB m 1 0) (hp1 : PB m a1 10) (h : fX0_isOther d a1 a2 a3 = some r) : VM w l WF yX0_isOther cX0_isOther 7 (some .boolean) 2 45 0 0 d m [mA 1, mA a1, mI a2, mI a3] (some (mI r)) d m := by
  obtain ⟨x, h, K⟩ : ∃ x, fX0_isOther d a1 a2 a3 = some x ∧ x = r := ⟨_, h, rfl⟩
  refine VM.of (L := [mA 1, mA a1, mI a2, mI a3, mU, mU, mU]) (by decide +kernel) rfl (Nat.le_of_ble_eq_true rfl) fun G F _ => v_fact fun _ hX _ _ => ?_
  unfold fX0_isOther at h
  refine v_aload_n F dX0_isOther_0 rfl rfl ?_
  refine v_iload_n F dX0_isOther_1 rfl rfl ?_
  refine v_aload_n F dX0_isOther_2 rfl rfl ?_
  refine gf_X0_537 F dX0_isOther_3 hp1 (v := (a1 + 1)) rfl ?_
  refine v_iload_n F dX0_isOther_6 rfl rfl ?_
  obtain ⟨hi1, h⟩ := ck_some h
  refine v_iald F dX0_isOther_7 (ar_X10_0 hX hp1) hi1 ?_
  obtain ⟨x2, hc3, h⟩ := b1_some h
  refine v_callVv (c := 0) F dX0_isOther_8 cv_X0_552 rfl (PB.ob hp hX (Nat.le_of_ble_eq_true rfl)) (Nat.le_of_ble_eq_true rfl) rfl (vm_X0_fieldOf hp hc3) rfl (rOk.of rfl) ?_
  refine v_istore F dX0_isOther_11 (Nat.le_of_ble_eq_true rfl) (L' := [mA 1, mA a1, mI a2, mI a3, mI x2, mU, mU]) rfl ?_
  refine v_iconst F dX0_isOther_13 ⟨by decide, by decide⟩ ?_
  refine v_istore F dX0_isOther_14 (Nat.le_of_ble_eq_true rfl) (L' := [mA 1, mA a1, mI a2, mI a3, mI x2, mI 0, mU]) rfl ?_
  refine v_iload F dX0_isOther_16 rfl ?_
  refine v_istore F dX0_isOther_18 (Nat.le_of_ble_eq_true rfl) (L' := [mA 1, mA a1, mI a2, mI a3, mI x2, mI 0, mI x2]) rfl ?_
  exact fX0_isOther_20_ok F hX hp hp1 h K
def fX0_pick_5P (w : Wd) (l : Launch) (G : Cx) (Q : State → Prop) (m : Dt) (a1 a2 : Int) (s : Dt × Int × Int) : Prop := V w l WF G Q s.1 m 0 0 5 [mA 1, mI a1, mU, mI (s.2.1), mI (s.2.2), mU, mU, mU] []
def fX0_pick_24P (w : Wd) (l : Launch) (G : Cx) (Q : State → Prop) (m : Dt) (a1 a2 v4 v5 : Int) (s : Dt × Int × Int) : Prop := V w l WF G Q s.1 m 0 0 24 [mA 1, mI a1, mU, mI (s.2.1), mI v4, mA v5, mI (s.2.2), mU] []
theorem fX0_pick_125_ok {w : Wd} {l : Launch} {G : Cx} {d m dd : Dt} {a1 a2 v4 v5 v6 s0 s1 : Int} {d' : Dt} {x : ((Dt × Int × Int) ⊕ ((Dt × Int × Int) ⊕ Dt))} (F : Fx w G cX0_pick RX0 8 none { frames := 3, cells := 0, slots := 0, locals := 71 }) (hX : WF dd m) (hp : PB m 1 0) (hv5 : PB m v5 10) (h : fX0_pick_125 d a1 a2 v4 v5 v6 s0 s1 = some x) (K : (Sum.elim (fX0_pick_24P w l G (QM w G WF none d' m 0 0) m a1 a2 v4 v5) (Sum.elim (fX0_pick_5P w l G (QM w G WF none d' m 0 0) m a1 a2) (fun q => q = d'))) x) : V w l WF G (QM w G WF none d' m 0 0) d m 0 0 125 [mA 1, mI a1, mU, mU, mI v4, mA v5, mI v6, mU] [mI s1, mI s0] := by
  unfold fX0_pick_125 at h
  refine v_isub F dX0_pick_125 ?_
  obtain ⟨x13, ex13, h⟩ := lv_some h
  refine v_nI ex13 ?_
  refine v_istore_n F dX0_pick_126 rfl (Nat.le_of_ble_eq_true rfl) (L' := [mA 1, mI a1, mU, mI x13, mI v4, mA v5, mI v6, mU]) rfl ?_
  obtain ⟨x14, ex14, h⟩ := lv_some h
  refine v_iincN F dX0_pick_127 (Nat.le_of_ble_eq_true rfl) rfl ex14 (L' := [mA 1, mI a1, mU, mI x13, mI v4, mA v5, mI x14, mU]) rfl ?_
  refine v_goto F dX0_pick_130 rfl ?_
  cases h
  exact K
theorem fX0_pick_114_ok {w : Wd} {l : Launch} {G : Cx} {d m dd : Dt} {a1 a2 v3 v4 v5 v6 v7 : Int} {d' : Dt} {x : ((Dt × Int × Int) ⊕ ((Dt × Int × Int) ⊕ Dt))} (F : Fx w G cX0_pick RX0 8 none { frames := 3, cells := 0, slots := 0, locals := 71 }) (hX : WF dd m) (hp : PB m 1 0) (hv5 : PB m v5 10) (h : fX0_pick_114 d a1 a2 v3 v4 v5 v6 v7 = some x) (K : (Sum.elim (fX0_pick_24P w l G (QM w G WF none d' m 0 0) m a1 a2 v4 v5) (Sum.elim (fX0_pick_5P w l G (QM w G WF none d' m 0 0) m a1 a2) (fun q => q = d'))) x) : V w l WF G (QM w G WF none d' m 0 0) d m 0 0 114 [mA 1, mI a1, mU, mI v3, mI v4, mA v5, mI v6, mI v7] [] := by
  unfold fX0_pick_114 at h
  refine v_iload_n F dX0_pick_114 rfl rfl ?_
  refine v_iload F dX0_pick_115 rfl ?_
  refine v_if_eq F dX0_pick_117 rfl (fun hq12 => ?_) (fun hq12 => ?_)
  · rw [if_pos hq12] at h
    refine v_iconst F dX0_pick_124 ⟨by decide, by decide⟩ ?_
    refine v_fgt (L' := [mA 1, mI a1, mU, mU, mI v4, mA v5, mI v6, mU]) ⟨Or.inl rfl, Or.inl rfl, Or.inl rfl, Or.inr rfl, Or.inl rfl, Or.inl rfl, Or.inl rfl, Or.inr rfl, trivial⟩ ?_
    exact fX0_pick_125_ok F hX hp hv5 h K
  · rw [if_neg hq12] at h
    refine v_iconst F dX0_pick_120 ⟨by decide, by decide⟩ ?_
    refine v_goto F dX0_pick_121 rfl ?_
    refine v_fgt (L' := [mA 1, mI a1, mU, mU, mI v4, mA v5, mI v6, mU]) ⟨Or.inl rfl, Or.inl rfl, Or.inl rfl, Or.inr rfl, Or.inl rfl, Or.inl rfl, Or.inl rfl, Or.inr rfl, trivial⟩ ?_
    exact fX0_pick_125_ok F hX hp hv5 h K
theorem fX0_pick_63_ok {w : Wd} {l : Launch} {G : Cx} {d m dd : Dt} {a1 a2 v3 v4 v5 v6 s0 : Int} {d' : Dt} {x : ((Dt × Int × Int) ⊕ ((Dt × Int × Int) ⊕ Dt))} (F : Fx w G cX0_pick RX0 8 none { frames := 3, cells := 0, slots := 0, locals := 71 }) (hX : WF dd m) (hp : PB m 1 0) (hv5 : PB m v5 10) (h : fX0_pick_63 d a1 a2 v3 v4 v5 v6 s0 = some x) (K : (Sum.elim (fX0_pick_24P w l G (QM w G WF none d' m 0 0) m a1 a2 v4 v5) (Sum.elim (fX0_pick_5P w l G (QM w G WF none d' m 0 0) m a1 a2) (fun q => q = d'))) x) : V w l WF G (QM w G WF none d' m 0 0) d m 0 0 63 [mA 1, mI a1, mU, mI v3, mI v4, mA v5, mI v6, mU] [mI s0] := by
  unfold fX0_pick_63 at h
  refine v_istore F dX0_pick_63 (Nat.le_of_ble_eq_true rfl) (L' := [mA 1, mI a1, mU, mI v3, mI v4, mA v5, mI v6, mI s0]) rfl ?_
  refine v_iload F dX0_pick_65 rfl ?_
  refine v_if_eq F dX0_pick_67 rfl (fun hq11 => ?_) (fun hq11 => ?_)
  · rw [if_pos hq11] at h
    exact fX0_pick_114_ok F hX hp hv5 h K
  · rw [if_neg hq11] at h
    refine v_iload_n F dX0_pick_70 rfl rfl ?_
    refine v_if_ne F dX0_pick_71 rfl (fun hq15 => ?_) (fun hq15 => ?_)
    · rw [if_neg hq15] at h
      exact fX0_pick_114_ok F hX hp hv5 h K
    · rw [if_pos hq15] at h
      refine v_aload_n F dX0_pick_74 rfl rfl ?_
      refine gf_X0_134 F dX0_pick_75 hp (v := 563) rfl ?_
      refine v_aload_n F dX0_pick_78 rfl rfl ?_
      refine gf_X0_290 F dX0_pick_79 hp ?_
      refine v_iload F dX0_pick_82 rfl ?_
      obtain ⟨x16, ex16, h⟩ := lv_some h
      refine v_n2 ex16 ?_
      obtain ⟨hi17, h⟩ := ck_some h
      obtain ⟨d18, ed18, h⟩ := sd_some h
      refine v_iast F dX0_pick_84 (ar_X0_38 hX hp) hi17 ?_
      refine v_nD ed18 ?_
      refine v_aload_n F dX0_pick_85 rfl rfl ?_
      refine gf_X0_137 F dX0_pick_86 hp (v := 564) rfl ?_
      refine v_aload_n F dX0_pick_89 rfl rfl ?_
      refine gf_X0_290 F dX0_pick_90 hp ?_
      refine v_iload F dX0_pick_93 rfl ?_
      obtain ⟨x19, ex19, h⟩ := lv_some h
      refine v_n2 ex19 ?_
      obtain ⟨hi20, h⟩ := ck_some h
      obtain ⟨d21, ed21, h⟩ := sd_some h
      refine v_iast F dX0_pick_95 (ar_X0_39 hX hp) hi20 ?_
      refine v_nD ed21 ?_
      refine v_aload_n F dX0_pick_96 rfl rfl ?_
      refine gf_X0_140 F dX0_pick_97 hp (v := 565) rfl ?_
      refine v_aload_n F dX0_pick_100 rfl rfl ?_
      refine gf_X0_290 F dX0_pick_101 hp ?_
      refine v_aload_n F dX0_pick_104 rfl rfl ?_
      refine v_aload F dX0_pick_105 rfl ?_
      refine v_iload F dX0_pick_107 rfl ?_
      refine v_iload_n F dX0_pick_109 rfl rfl ?_
      obtain ⟨x22, hc23, h⟩ := b1_some h
      refine v_callVv (c := 0) F dX0_pick_110 cv_X0_605 rfl (PB.ob hp hX (Nat.le_of_ble_eq_true rfl)) (Nat.le_of_ble_eq_true rfl) rfl (vm_X0_isOther hp hv5 hc23) rfl (rOk.of rfl) ?_
      obtain ⟨x24, ex24, h⟩ := lv_some h
      refine v_n2 ex24 ?_
      obtain ⟨hi25, h⟩ := ck_some h
      obtain ⟨d26, ed26, h⟩ := sd_some h
      refine v_zast F dX0_pick_113 (ar_X0_40 hX hp) hi25 ?_
      refine v_nD ed26 ?_
      exact fX0_pick_114_ok F hX hp hv5 h K
theorem fX0_pick_24f_ok {w : Wd} {l : Launch} {G : Cx} {m dd : Dt} {a1 a2 v4 v5 : Int} {d' : Dt} {s : Dt × Int × Int} {x : ((Dt × Int × Int) ⊕ ((Dt × Int × Int) ⊕ Dt))} (F : Fx w G cX0_pick RX0 8 none { frames := 3, cells := 0, slots := 0, locals := 71 }) (hX : WF dd m) (hp : PB m 1 0) (hv5 : PB m v5 10) (h : fX0_pick_24f a1 a2 v4 v5 s = some x) (K : (Sum.elim (fX0_pick_24P w l G (QM w G WF none d' m 0 0) m a1 a2 v4 v5) (Sum.elim (fX0_pick_5P w l G (QM w G WF none d' m 0 0) m a1 a2) (fun q => q = d'))) x) : V w l WF G (QM w G WF none d' m 0 0) s.1 m 0 0 24 [mA 1, mI a1, mU, mI (s.2.1), mI v4, mA v5, mI (s.2.2), mU] [] := by
  obtain ⟨d, v3, v6⟩ := s
  unfold fX0_pick_24f at h
  dsimp only at h
  refine v_iload F dX0_pick_24 rfl ?_
  refine v_aload F dX0_pick_26 rfl ?_
  refine gf_X0_532 F dX0_pick_28 hv5 ?_
  refine v_icmp_ge F dX0_pick_31 rfl (fun hq5 => ?_) (fun hq5 => ?_)
  · rw [if_pos hq5] at h
    obtain ⟨z, hu, ez⟩ := up_some h
    clear h
    subst ez
    have h := hu
    clear hu
    obtain ⟨x6, ex6, h⟩ := lv_some h
    refine v_iincN F dX0_pick_133 (Nat.le_of_ble_eq_true rfl) rfl ex6 (L' := [mA 1, mI a1, mU, mI v3, mI x6, mA v5, mI v6, mU]) rfl ?_
    refine v_goto F dX0_pick_136 rfl ?_
    cases h
    refine v_fgt (L' := [mA 1, mI a1, mU, mI v3, mI x6, mU, mU, mU]) ⟨Or.inl rfl, Or.inl rfl, Or.inl rfl, Or.inl rfl, Or.inl rfl, Or.inr rfl, Or.inr rfl, Or.inl rfl, trivial⟩ ?_
    exact K
  · rw [if_neg hq5] at h
    refine v_aload F dX0_pick_34 rfl ?_
    refine gf_X0_535 F dX0_pick_36 hv5 ?_
    refine v_if_ne F dX0_pick_39 rfl (fun hq7 => ?_) (fun hq7 => ?_)
    · rw [if_neg hq7] at h
      obtain ⟨z, hu, ez⟩ := up_some h
      clear h
      subst ez
      have h := hu
      clear hu
      obtain ⟨x8, ex8, h⟩ := lv_some h
      refine v_iincN F dX0_pick_133 (Nat.le_of_ble_eq_true rfl) rfl ex8 (L' := [mA 1, mI a1, mU, mI v3, mI x8, mA v5, mI v6, mU]) rfl ?_
      refine v_goto F dX0_pick_136 rfl ?_
      cases h
      refine v_fgt (L' := [mA 1, mI a1, mU, mI v3, mI x8, mU, mU, mU]) ⟨Or.inl rfl, Or.inl rfl, Or.inl rfl, Or.inl rfl, Or.inl rfl, Or.inr rfl, Or.inr rfl, Or.inl rfl, trivial⟩ ?_
      exact K
    · rw [if_pos hq7] at h
      refine v_aload F dX0_pick_42 rfl ?_
      refine gf_X0_537 F dX0_pick_44 hv5 (v := (v5 + 1)) rfl ?_
      refine v_iload F dX0_pick_47 rfl ?_
      obtain ⟨hi9, h⟩ := ck_some h
      refine v_iald F dX0_pick_49 (ar_X10_0 hX hv5) hi9 ?_
      refine v_iload_n F dX0_pick_50 rfl rfl ?_
      refine v_ishr F dX0_pick_51 ?_
      refine v_iconst F dX0_pick_52 ⟨by decide, by decide⟩ ?_
      refine v_iand F dX0_pick_53 ?_
      refine v_iconst F dX0_pick_54 ⟨by decide, by decide⟩ ?_
      refine v_icmp_ne F dX0_pick_55 rfl (fun hq10 => ?_) (fun hq10 => ?_)
      · rw [if_neg hq10] at h
        refine v_iconst F dX0_pick_62 ⟨by decide, by decide⟩ ?_
        exact fX0_pick_63_ok F hX hp hv5 h K
      · rw [if_pos hq10] at h
        refine v_iconst F dX0_pick_58 ⟨by decide, by decide⟩ ?_
        refine v_goto F dX0_pick_59 rfl ?_
        exact fX0_pick_63_ok F hX hp hv5 h K
theorem fX0_pick_24_ok {w : Wd} {l : Launch} {G : Cx} {d m dd : Dt} {a1 a2 v3 v4 v5 v6 : Int} {d' : Dt} {x : ((Dt × Int × Int) ⊕ Dt)} (F : Fx w G cX0_pick RX0 8 none { frames := 3, cells := 0, slots := 0, locals := 71 }) (hX : WF dd m) (hp : PB m 1 0) (hv5 : PB m v5 10) (h : fX0_pick_24 d a1 a2 v3 v4 v5 v6 = some x) (K : (Sum.elim (fX0_pick_5P w l G (QM w G WF none d' m 0 0) m a1 a2) (fun q => q = d')) x) : V w l WF G (QM w G WF none d' m 0 0) d m 0 0 24 [mA 1, mI a1, mU, mI v3, mI v4, mA v5, mI v6, mU] [] := by
  unfold fX0_pick_24 at h
  exact loop_ok (P := fX0_pick_24P w l G (QM w G WF none d' m 0 0) m a1 a2 v4 v5) (fun s x hx h1 h2 => fX0_pick_24f_ok F hX hp hv5 hx (by
    cases x with
    | inl s' => exact h1 s' rfl
    | inr z => cases h2 z rfl; exact K)) h
theorem fX0_pick_5f_ok {w : Wd} {l : Launch} {G : Cx} {m dd : Dt} {a1 a2 : Int} {d' : Dt} {s : Dt × Int × Int} {x : ((Dt × Int × Int) ⊕ Dt)} (F : Fx w G cX0_pick RX0 8 none { frames := 3, cells := 0, slots := 0, locals := 71 }) (hX : WF dd m) (hp : PB m 1 0) (h : fX0_pick_5f a1 a2 s = some x) (K : (Sum.elim (fX0_pick_5P w l G (QM w G WF none d' m 0 0) m a1 a2) (fun q => q = d')) x) : V w l WF G (QM w G WF none d' m 0 0) s.1 m 0 0 5 [mA 1, mI a1, mU, mI (s.2.1), mI (s.2.2), mU, mU, mU] [] := by
  obtain ⟨d, v3, v4⟩ := s
  unfold fX0_pick_5f at h
  dsimp only at h
  refine v_iload F dX0_pick_5 rfl ?_
  refine v_bipush F dX0_pick_7 rfl ⟨by decide, by decide⟩ ?_
  refine v_icmp_gt F dX0_pick_9 rfl (fun hq1 => ?_) (fun hq1 => ?_)
  · rw [if_pos hq1] at h
    obtain ⟨z, hu, ez⟩ := up_some h
    clear h
    subst ez
    have h := hu
    clear hu
    refine v_aload_n F dX0_pick_139 rfl rfl ?_
    refine v_dup_A F dX0_pick_140 ?_
    refine gf_X0_290 F dX0_pick_141 hp ?_
    refine v_iconst F dX0_pick_144 ⟨by decide, by decide⟩ ?_
    refine v_iadd F dX0_pick_145 ?_
    obtain ⟨d2, ed2, h⟩ := sd_some h
    refine pf_X0_290 F dX0_pick_146 hp ?_
    refine v_nD ed2 ?_
    cases h
    cases (show _ = d' from K)
    exact v_vret F dX0_pick_149
  · rw [if_neg hq1] at h
    refine v_aload_n F dX0_pick_12 rfl rfl ?_
    refine gf_X0_120 F dX0_pick_13 hp (v := 78) rfl ?_
    refine v_iload F dX0_pick_16 rfl ?_
    obtain ⟨hi3, h⟩ := ck_some h
    refine v_aaldF (c := 0) (k := 34) F dX0_pick_18 hp (Nat.le_of_ble_eq_true rfl) (Nat.le_of_ble_eq_true rfl) (by decide) (by decide) rfl (ar_X0_34 hX hp) (Nat.le_of_ble_eq_true rfl) rfl rfl rfl rfl hi3 (v := (677 + 124 * v4)) (by show 1 + 676 + 124 * v4 = _; omega) ?_
    obtain ⟨x4, ex4, h⟩ := lv_some h
    refine v_nA ex4 ?_
    have x4p : PB m x4 10 := by rw [ex4]; exact (ae_X0_34 (i := v4) hX hp hi3 (v := (677 + 124 * v4)) (by omega))
    refine v_astore F dX0_pick_19 (Nat.le_of_ble_eq_true rfl) (L' := [mA 1, mI a1, mU, mI v3, mI v4, mA x4, mU, mU]) rfl ?_
    refine v_iconst F dX0_pick_21 ⟨by decide, by decide⟩ ?_
    refine v_istore F dX0_pick_22 (Nat.le_of_ble_eq_true rfl) (L' := [mA 1, mI a1, mU, mI v3, mI v4, mA x4, mI 0, mU]) rfl ?_
    exact fX0_pick_24_ok F hX hp x4p h K
theorem fX0_pick_5_ok {w : Wd} {l : Launch} {G : Cx} {d m dd : Dt} {a1 a2 v3 v4 : Int} {d' : Dt} {x : Dt} (F : Fx w G cX0_pick RX0 8 none { frames := 3, cells := 0, slots := 0, locals := 71 }) (hX : WF dd m) (hp : PB m 1 0) (h : fX0_pick_5 d a1 a2 v3 v4 = some x) (K : (fun q => q = d') x) : V w l WF G (QM w G WF none d' m 0 0) d m 0 0 5 [mA 1, mI a1, mU, mI v3, mI v4, mU, mU, mU] [] := by
  unfold fX0_pick_5 at h
  exact loop_ok (P := fX0_pick_5P w l G (QM w G WF none d' m 0 0) m a1 a2) (fun s x hx h1 h2 => fX0_pick_5f_ok F hX hp hx (by
    cases x with
    | inl s' => exact h1 s' rfl
    | inr z => cases h2 z rfl; exact K)) h
theorem vm_X0_pick {w : Wd} {l : Launch} {d m : Dt} {a1 a2 : Int} {d' : Dt} (hp : PB m 1 0) (h : fX0_pick d a1 a2 = some d') : VM w l WF yX0_pick cX0_pick 8 none 3 71 0 0 d m [mA 1, mI a1, mI a2] none d' m := by
  obtain ⟨x, h, K⟩ : ∃ x, fX0_pick d a1 a2 = some x ∧ x = d' := ⟨_, h, rfl⟩
  refine VM.of (L := [mA 1, mI a1, mI a2, mU, mU, mU, mU, mU]) (by decide +kernel) rfl (Nat.le_of_ble_eq_true rfl) fun G F _ => v_fact fun _ hX _ _ => ?_
  unfold fX0_pick at h
  refine v_iload_n F dX0_pick_0 rfl rfl ?_
  refine v_istore_n F dX0_pick_1 rfl (Nat.le_of_ble_eq_true rfl) (L' := [mA 1, mI a1, mI a2, mI a2, mU, mU, mU, mU]) rfl ?_
  refine v_iconst F dX0_pick_2 ⟨by decide, by decide⟩ ?_
  refine v_istore F dX0_pick_3 (Nat.le_of_ble_eq_true rfl) (L' := [mA 1, mI a1, mI a2, mI a2, mI 0, mU, mU, mU]) rfl ?_
  refine v_fgt (L' := [mA 1, mI a1, mU, mI a2, mI 0, mU, mU, mU]) ⟨Or.inl rfl, Or.inl rfl, Or.inr rfl, Or.inl rfl, Or.inl rfl, Or.inl rfl, Or.inl rfl, Or.inl rfl, trivial⟩ ?_
  exact fX0_pick_5_ok F hX hp h K
def fX0_drawAll_22P (w : Wd) (l : Launch) (G : Cx) (Q : State → Prop) (m : Dt) (a1 a2 a3 : Int) (s : Dt × Int × Int) : Prop := V w l WF G Q s.1 m 0 0 22 [mA 1, mI a1, mI a2, mU, mU, mL (s.2.1), mU, mI (s.2.2), mU, mU] []
def fX0_drawAll_52P (w : Wd) (l : Launch) (G : Cx) (Q : State → Prop) (m : Dt) (d : Dt) (a1 a2 a3 v5 v7 : Int) (s : Int × Int) : Prop := V w l WF G Q d m 0 0 52 [mA 1, mI a1, mI a2, mU, mU, mL v5, mU, mI v7, mI (s.1), mI (s.2)] []
theorem fX0_drawAll_84_ok {w : Wd} {l : Launch} {G : Cx} {d m dd : Dt} {a1 a2 a3 v5 v7 v9 s0 s1 : Int} {d' : Dt} {x : ((Int × Int) ⊕ ((Dt × Int × Int) ⊕ Dt))} (F : Fx w G cX0_drawAll RX0 10 none { frames := 4, cells := 0, slots := 0, locals := 98 }) (hX : WF dd m) (hp : PB m 1 0) (h : fX0_drawAll_84 d a1 a2 a3 v5 v7 v9 s0 s1 = some x) (K : (Sum.elim (fX0_drawAll_52P w l G (QM w G WF none d' m 0 0) m d a1 a2 a3 v5 v7) (Sum.elim (fX0_drawAll_22P w l G (QM w G WF none d' m 0 0) m a1 a2 a3) (fun q => q = d'))) x) : V w l WF G (QM w G WF none d' m 0 0) d m 0 0 84 [mA 1, mI a1, mI a2, mU, mU, mL v5, mU, mI v7, mU, mI v9] [mI s1, mI s0] := by
  unfold fX0_drawAll_84 at h
  refine v_isub F dX0_drawAll_84 ?_
  obtain ⟨x13, ex13, h⟩ := lv_some h
  refine v_nI ex13 ?_
  refine v_istore F dX0_drawAll_85 (Nat.le_of_ble_eq_true rfl) (L' := [mA 1, mI a1, mI a2, mU, mU, mL v5, mU, mI v7, mI x13, mI v9]) rfl ?_
  obtain ⟨x14, ex14, h⟩ := lv_some h
  refine v_iincN F dX0_drawAll_87 (Nat.le_of_ble_eq_true rfl) rfl ex14 (L' := [mA 1, mI a1, mI a2, mU, mU, mL v5, mU, mI v7, mI x13, mI x14]) rfl ?_
  refine v_goto F dX0_drawAll_90 rfl ?_
  cases h
  exact K
theorem fX0_drawAll_67_ok {w : Wd} {l : Launch} {G : Cx} {d m dd : Dt} {a1 a2 a3 v5 v7 v8 v9 : Int} {d' : Dt} {x : ((Int × Int) ⊕ ((Dt × Int × Int) ⊕ Dt))} (F : Fx w G cX0_drawAll RX0 10 none { frames := 4, cells := 0, slots := 0, locals := 98 }) (hX : WF dd m) (hp : PB m 1 0) (h : fX0_drawAll_67 d a1 a2 a3 v5 v7 v8 v9 = some x) (K : (Sum.elim (fX0_drawAll_52P w l G (QM w G WF none d' m 0 0) m d a1 a2 a3 v5 v7) (Sum.elim (fX0_drawAll_22P w l G (QM w G WF none d' m 0 0) m a1 a2 a3) (fun q => q = d'))) x) : V w l WF G (QM w G WF none d' m 0 0) d m 0 0 67 [mA 1, mI a1, mI a2, mU, mU, mL v5, mU, mI v7, mI v8, mI v9] [] := by
  unfold fX0_drawAll_67 at h
  refine v_iload F dX0_drawAll_67 rfl ?_
  refine v_aload_n F dX0_drawAll_69 rfl rfl ?_
  refine gf_X0_143 F dX0_drawAll_70 hp (v := 566) rfl ?_
  refine v_iload F dX0_drawAll_73 rfl ?_
  obtain ⟨hi11, h⟩ := ck_some h
  refine v_zald F dX0_drawAll_75 (ar_X0_41 hX hp) hi11 ?_
  refine v_if_eq F dX0_drawAll_76 rfl (fun hq12 => ?_) (fun hq12 => ?_)
  · rw [if_pos hq12] at h
    refine v_iconst F dX0_drawAll_83 ⟨by decide, by decide⟩ ?_
    refine v_fgt (L' := [mA 1, mI a1, mI a2, mU, mU, mL v5, mU, mI v7, mU, mI v9]) ⟨Or.inl rfl, Or.inl rfl, Or.inl rfl, Or.inl rfl, Or.inl rfl, Or.inl rfl, Or.inl rfl, Or.inl rfl, Or.inr rfl, Or.inl rfl, trivial⟩ ?_
    exact fX0_drawAll_84_ok F hX hp h K
  · rw [if_neg hq12] at h
    refine v_iconst F dX0_drawAll_79 ⟨by decide, by decide⟩ ?_
    refine v_goto F dX0_drawAll_80 rfl ?_
    refine v_fgt (L' := [mA 1, mI a1, mI a2, mU, mU, mL v5, mU, mI v7, mU, mI v9]) ⟨Or.inl rfl, Or.inl rfl, Or.inl rfl, Or.inl rfl, Or.inl rfl, Or.inl rfl, Or.inl rfl, Or.inl rfl, Or.inr rfl, Or.inl rfl, trivial⟩ ?_
    exact fX0_drawAll_84_ok F hX hp h K
theorem fX0_drawAll_52f_ok {w : Wd} {l : Launch} {G : Cx} {d m dd : Dt} {a1 a2 a3 v5 v7 : Int} {d' : Dt} {s : Int × Int} {x : ((Int × Int) ⊕ ((Dt × Int × Int) ⊕ Dt))} (F : Fx w G cX0_drawAll RX0 10 none { frames := 4, cells := 0, slots := 0, locals := 98 }) (hX : WF dd m) (hp : PB m 1 0) (h : fX0_drawAll_52f d a1 a2 a3 v5 v7 s = some x) (K : (Sum.elim (fX0_drawAll_52P w l G (QM w G WF none d' m 0 0) m d a1 a2 a3 v5 v7) (Sum.elim (fX0_drawAll_22P w l G (QM w G WF none d' m 0 0) m a1 a2 a3) (fun q => q = d'))) x) : V w l WF G (QM w G WF none d' m 0 0) d m 0 0 52 [mA 1, mI a1, mI a2, mU, mU, mL v5, mU, mI v7, mI (s.1), mI (s.2)] [] := by
  obtain ⟨v8, v9⟩ := s
  unfold fX0_drawAll_52f at h
  dsimp only at h
  refine v_aload_n F dX0_drawAll_52 rfl rfl ?_
  refine gf_X0_143 F dX0_drawAll_53 hp (v := 566) rfl ?_
  refine v_iload F dX0_drawAll_56 rfl ?_
  obtain ⟨hi9, h⟩ := ck_some h
  refine v_zald F dX0_drawAll_58 (ar_X0_41 hX hp) hi9 ?_
  refine v_if_ne F dX0_drawAll_59 rfl (fun hq10 => ?_) (fun hq10 => ?_)
  · rw [if_neg hq10] at h
    exact fX0_drawAll_67_ok F hX hp h K
  · rw [if_pos hq10] at h
    refine v_iload F dX0_drawAll_62 rfl ?_
    refine v_if_le F dX0_drawAll_64 rfl (fun hq15 => ?_) (fun hq15 => ?_)
    · rw [if_pos hq15] at h
      obtain ⟨z, hu, ez⟩ := up_some h
      clear h
      subst ez
      have h := hu
      clear hu
      refine v_aload_n F dX0_drawAll_93 rfl rfl ?_
      refine gf_X0_143 F dX0_drawAll_94 hp (v := 566) rfl ?_
      refine v_iload F dX0_drawAll_97 rfl ?_
      refine v_iconst F dX0_drawAll_99 ⟨by decide, by decide⟩ ?_
      obtain ⟨d16, ed16, h⟩ := sd_some h
      refine v_zast F dX0_drawAll_100 (ar_X0_41 hX hp) hi9 ?_
      refine v_nD ed16 ?_
      refine v_aload_n F dX0_drawAll_101 rfl rfl ?_
      refine v_iload_n F dX0_drawAll_102 rfl rfl ?_
      refine v_iload F dX0_drawAll_103 rfl ?_
      obtain ⟨d17, hc18, h⟩ := bd_some h
      refine v_callV0 (c := 0) F dX0_drawAll_105 cv_X0_638 rfl (PB.ob hp hX (Nat.le_of_ble_eq_true rfl)) (Nat.le_of_ble_eq_true rfl) rfl (vm_X0_pick hp hc18) rfl (rOk.of rfl) ?_
      obtain ⟨x19, ex19, h⟩ := lv_some h
      refine v_iincN F dX0_drawAll_108 (Nat.le_of_ble_eq_true rfl) rfl ex19 (L' := [mA 1, mI a1, mI a2, mU, mU, mL v5, mU, mI x19, mI v8, mI v9]) rfl ?_
      refine v_goto F dX0_drawAll_111 rfl ?_
      cases h
      refine v_fgt (L' := [mA 1, mI a1, mI a2, mU, mU, mL v5, mU, mI x19, mU, mU]) ⟨Or.inl rfl, Or.inl rfl, Or.inl rfl, Or.inl rfl, Or.inl rfl, Or.inl rfl, Or.inl rfl, Or.inl rfl, Or.inr rfl, Or.inr rfl, trivial⟩ ?_
      exact K
    · rw [if_neg hq15] at h
      exact fX0_drawAll_67_ok F hX hp h K
theorem fX0_drawAll_52_ok {w : Wd} {l : Launch} {G : Cx} {d m dd : Dt} {a1 a2 a3 v5 v7 v8 v9 : Int} {d' : Dt} {x : ((Dt × Int × Int) ⊕ Dt)} (F : Fx w G cX0_drawAll RX0 10 none { frames := 4, cells := 0, slots := 0, locals := 98 }) (hX : WF dd m) (hp : PB m 1 0) (h : fX0_drawAll_52 d a1 a2 a3 v5 v7 v8 v9 = some x) (K : (Sum.elim (fX0_drawAll_22P w l G (QM w G WF none d' m 0 0) m a1 a2 a3) (fun q => q = d')) x) : V w l WF G (QM w G WF none d' m 0 0) d m 0 0 52 [mA 1, mI a1, mI a2, mU, mU, mL v5, mU, mI v7, mI v8, mI v9] [] := by
  unfold fX0_drawAll_52 at h
  exact loop_ok (P := fX0_drawAll_52P w l G (QM w G WF none d' m 0 0) m d a1 a2 a3 v5 v7) (fun s x hx h1 h2 => fX0_drawAll_52f_ok F hX hp hx (by
    cases x with
    | inl s' => exact h1 s' rfl
    | inr z => cases h2 z rfl; exact K)) h
theorem fX0_drawAll_22f_ok {w : Wd} {l : Launch} {G : Cx} {m dd : Dt} {a1 a2 a3 : Int} {d' : Dt} {s : Dt × Int × Int} {x : ((Dt × Int × Int) ⊕ Dt)} (F : Fx w G cX0_drawAll RX0 10 none { frames := 4, cells := 0, slots := 0, locals := 98 }) (hX : WF dd m) (hp : PB m 1 0) (h : fX0_drawAll_22f a1 a2 a3 s = some x) (K : (Sum.elim (fX0_drawAll_22P w l G (QM w G WF none d' m 0 0) m a1 a2 a3) (fun q => q = d')) x) : V w l WF G (QM w G WF none d' m 0 0) s.1 m 0 0 22 [mA 1, mI a1, mI a2, mU, mU, mL (s.2.1), mU, mI (s.2.2), mU, mU] [] := by
  obtain ⟨d, v5, v7⟩ := s
  unfold fX0_drawAll_22f at h
  dsimp only at h
  refine v_iload F dX0_drawAll_22 rfl ?_
  refine v_aload_n F dX0_drawAll_24 rfl rfl ?_
  refine gf_X0_627 F dX0_drawAll_25 hp ?_
  refine v_iload_n F dX0_drawAll_28 rfl rfl ?_
  refine v_isub F dX0_drawAll_29 ?_
  refine v_icmp_le F dX0_drawAll_30 rfl (fun hq5 => ?_) (fun hq5 => ?_)
  · rw [if_pos hq5] at h
    obtain ⟨z, hu, ez⟩ := up_some h
    clear h
    subst ez
    have h := hu
    clear hu
    cases h
    cases (show _ = d' from K)
    exact v_vret F dX0_drawAll_114
  · rw [if_neg hq5] at h
    refine v_lload F dX0_drawAll_33 rfl ?_
    refine v_callSv F dX0_drawAll_35 cs_X0_630 rfl (vm_X0_stepped) rfl (rOk.of rfl) ?_
    obtain ⟨x6, ex6, h⟩ := lv_some h
    refine v_nL ex6 ?_
    refine v_lstore F dX0_drawAll_38 (Nat.le_of_ble_eq_true rfl) (L' := [mA 1, mI a1, mI a2, mU, mU, mL x6, mU, mI v7, mU, mU]) rfl ?_
    refine v_lload F dX0_drawAll_40 rfl ?_
    refine v_iload F dX0_drawAll_42 rfl ?_
    obtain ⟨x7, hc8, h⟩ := b1_some h
    refine v_callSv F dX0_drawAll_44 cs_X0_634 rfl (vm_X0_placeOf hc8) rfl (rOk.of rfl) ?_
    refine v_istore F dX0_drawAll_47 (Nat.le_of_ble_eq_true rfl) (L' := [mA 1, mI a1, mI a2, mU, mU, mL x6, mU, mI v7, mI x7, mU]) rfl ?_
    refine v_iconst F dX0_drawAll_49 ⟨by decide, by decide⟩ ?_
    refine v_istore F dX0_drawAll_50 (Nat.le_of_ble_eq_true rfl) (L' := [mA 1, mI a1, mI a2, mU, mU, mL x6, mU, mI v7, mI x7, mI 0]) rfl ?_
    exact fX0_drawAll_52_ok F hX hp h K
theorem fX0_drawAll_22_ok {w : Wd} {l : Launch} {G : Cx} {d m dd : Dt} {a1 a2 a3 v5 v7 : Int} {d' : Dt} {x : Dt} (F : Fx w G cX0_drawAll RX0 10 none { frames := 4, cells := 0, slots := 0, locals := 98 }) (hX : WF dd m) (hp : PB m 1 0) (h : fX0_drawAll_22 d a1 a2 a3 v5 v7 = some x) (K : (fun q => q = d') x) : V w l WF G (QM w G WF none d' m 0 0) d m 0 0 22 [mA 1, mI a1, mI a2, mU, mU, mL v5, mU, mI v7, mU, mU] [] := by
  unfold fX0_drawAll_22 at h
  exact loop_ok (P := fX0_drawAll_22P w l G (QM w G WF none d' m 0 0) m a1 a2 a3) (fun s x hx h1 h2 => fX0_drawAll_22f_ok F hX hp hx (by
    cases x with
    | inl s' => exact h1 s' rfl
    | inr z => cases h2 z rfl; exact K)) h
theorem vm_X0_drawAll {w : Wd} {l : Launch} {d m : Dt} {a1 a2 a3 : Int} {d' : Dt} (hp : PB m 1 0) (h : fX0_drawAll d a1 a2 a3 = some d') : VM w l WF yX0_drawAll cX0_drawAll 10 none 4 98 0 0 d m [mA 1, mI a1, mI a2, mL a3] none d' m := by
  obtain ⟨x, h, K⟩ : ∃ x, fX0_drawAll d a1 a2 a3 = some x ∧ x = d' := ⟨_, h, rfl⟩
  refine VM.of (L := [mA 1, mI a1, mI a2, mL a3, mU, mU, mU, mU, mU, mU]) (by decide +kernel) rfl (Nat.le_of_ble_eq_true rfl) fun G F _ => v_fact fun _ hX _ _ => ?_
  unfold fX0_drawAll at h
  refine v_aload_n F dX0_drawAll_0 rfl rfl ?_
  refine gf_X0_143 F dX0_drawAll_1 hp (v := 566) rfl ?_
  refine v_iconst F dX0_drawAll_4 ⟨by decide, by decide⟩ ?_
  obtain ⟨d1, hc2, h⟩ := bd_some h
  refine v_callS0 F dX0_drawAll_5 cs_X0_624 rfl (vm_J4_fill (ar_X0_41 hX hp) hc2) rfl (rOk.of rfl) ?_
  refine v_aload_n F dX0_drawAll_8 rfl rfl ?_
  refine v_iconst F dX0_drawAll_9 ⟨by decide, by decide⟩ ?_
  obtain ⟨d3, ed3, h⟩ := sd_some h
  refine pf_X0_290 F dX0_drawAll_10 hp ?_
  refine v_nD ed3 ?_
  refine v_lload_n F dX0_drawAll_13 rfl rfl ?_
  refine v_lstore F dX0_drawAll_14 (Nat.le_of_ble_eq_true rfl) (L' := [mA 1, mI a1, mI a2, mL a3, mU, mL a3, mU, mU, mU, mU]) rfl ?_
  refine v_aload_n F dX0_drawAll_16 rfl rfl ?_
  refine gf_X0_627 F dX0_drawAll_17 hp ?_
  obtain ⟨x4, ex4, h⟩ := lv_some h
  refine v_nI ex4 ?_
  refine v_istore F dX0_drawAll_20 (Nat.le_of_ble_eq_true rfl) (L' := [mA 1, mI a1, mI a2, mL a3, mU, mL a3, mU, mI x4, mU, mU]) rfl ?_
  refine v_fgt (L' := [mA 1, mI a1, mI a2, mU, mU, mL a3, mU, mI x4, mU, mU]) ⟨Or.inl rfl, Or.inl rfl, Or.inl rfl, Or.inr rfl, Or.inl rfl, Or.inl rfl, Or.inl rfl, Or.inl rfl, Or.inl rfl, Or.inl rfl, trivial⟩ ?_
  exact fX0_drawAll_22_ok F hX hp h K
def fX0_weigh_5P (w : Wd) (l : Launch) (G : Cx) (Q : State → Prop) (m : Dt) (d : Dt) (a1 a2 : Int) (s : Int × Int) : Prop := V w l WF G Q d m 0 0 5 [mA 1, mI a1, mI a2, mL (s.1), mU, mI (s.2), mU, mU, mU, mU, mU, mU, mU] []
def fX0_weigh_117P (w : Wd) (l : Launch) (G : Cx) (Q : State → Prop) (m : Dt) (d : Dt) (a1 a2 v3 v5 : Int) (s : Int × Int) : Prop := V w l WF G Q d m 0 0 117 [mA 1, mU, mU, mL v3, mU, mL v5, mU, mL (s.1), mU, mL (s.2), mU, mU, mU] []
theorem fX0_weigh_117f_ok {w : Wd} {l : Launch} {G : Cx} {d m dd : Dt} {a1 a2 v3 v5 : Int} {d' : Dt} {s : Int × Int} {x : ((Int × Int) ⊕ Dt)} (F : Fx w G cX0_weigh RX0 13 none { frames := 1, cells := 0, slots := 0, locals := 21 }) (hX : WF dd m) (hp : PB m 1 0) (h : fX0_weigh_117f d a1 a2 v3 v5 s = some x) (K : (Sum.elim (fX0_weigh_117P w l G (QM w G WF none d' m 0 0) m d a1 a2 v3 v5) (fun q => q = d')) x) : V w l WF G (QM w G WF none d' m 0 0) d m 0 0 117 [mA 1, mU, mU, mL v3, mU, mL v5, mU, mL (s.1), mU, mL (s.2), mU, mU, mU] [] := by
  obtain ⟨v7, v9⟩ := s
  unfold fX0_weigh_117f at h
  dsimp only at h
  refine v_lload F dX0_weigh_117 rfl ?_
  refine v_lconst0 F dX0_weigh_119 ?_
  refine v_lcmp F dX0_weigh_120 ?_
  refine v_if_eq F dX0_weigh_121 rfl (fun hq6 => ?_) (fun hq6 => ?_)
  · rw [if_pos hq6] at h
    obtain ⟨z, hu, ez⟩ := up_some h
    clear h
    subst ez
    have h := hu
    clear hu
    refine v_aload_n F dX0_weigh_142 rfl rfl ?_
    refine v_lload_n F dX0_weigh_143 rfl rfl ?_
    refine v_lload F dX0_weigh_144 rfl ?_
    obtain ⟨hz7, h⟩ := ck_some h
    refine v_ldiv F dX0_weigh_146 hz7 ?_
    obtain ⟨d8, ed8, h⟩ := sd_some h
    refine pf_X0_647 F dX0_weigh_147 hp ?_
    refine v_nD ed8 ?_
    refine v_aload_n F dX0_weigh_150 rfl rfl ?_
    refine v_lload F dX0_weigh_151 rfl ?_
    refine v_lload F dX0_weigh_153 rfl ?_
    obtain ⟨hz9, h⟩ := ck_some h
    refine v_ldiv F dX0_weigh_155 hz9 ?_
    obtain ⟨d10, ed10, h⟩ := sd_some h
    refine pf_X0_650 F dX0_weigh_156 hp ?_
    refine v_nD ed10 ?_
    cases h
    cases (show _ = d' from K)
    exact v_vret F dX0_weigh_159
  · rw [if_neg hq6] at h
    refine v_lload F dX0_weigh_124 rfl ?_
    refine v_lload F dX0_weigh_126 rfl ?_
    obtain ⟨hz11, h⟩ := ck_some h
    refine v_lrem F dX0_weigh_128 hz11 ?_
    obtain ⟨x12, ex12, h⟩ := lv_some h
    refine v_nL ex12 ?_
    refine v_lstore F dX0_weigh_129 (Nat.le_of_ble_eq_true rfl) (L' := [mA 1, mU, mU, mL v3, mU, mL v5, mU, mL v7, mU, mL v9, mU, mL x12, mU]) rfl ?_
    refine v_lload F dX0_weigh_131 rfl ?_
    refine v_lstore F dX0_weigh_133 (Nat.le_of_ble_eq_true rfl) (L' := [mA 1, mU, mU, mL v3, mU, mL v5, mU, mL v9, mU, mL v9, mU, mL x12, mU]) rfl ?_
    refine v_lload F dX0_weigh_135 rfl ?_
    refine v_lstore F dX0_weigh_137 (Nat.le_of_ble_eq_true rfl) (L' := [mA 1, mU, mU, mL v3, mU, mL v5, mU, mL v9, mU, mL x12, mU, mL x12, mU]) rfl ?_
    refine v_goto F dX0_weigh_139 rfl ?_
    cases h
    refine v_fgt (L' := [mA 1, mU, mU, mL v3, mU, mL v5, mU, mL v9, mU, mL x12, mU, mU, mU]) ⟨Or.inl rfl, Or.inl rfl, Or.inl rfl, Or.inl rfl, Or.inl rfl, Or.inl rfl, Or.inl rfl, Or.inl rfl, Or.inl rfl, Or.inl rfl, Or.inl rfl, Or.inr rfl, Or.inl rfl, trivial⟩ ?_
    exact K
theorem fX0_weigh_117_ok {w : Wd} {l : Launch} {G : Cx} {d m dd : Dt} {a1 a2 v3 v5 v7 v9 : Int} {d' : Dt} {x : Dt} (F : Fx w G cX0_weigh RX0 13 none { frames := 1, cells := 0, slots := 0, locals := 21 }) (hX : WF dd m) (hp : PB m 1 0) (h : fX0_weigh_117 d a1 a2 v3 v5 v7 v9 = some x) (K : (fun q => q = d') x) : V w l WF G (QM w G WF none d' m 0 0) d m 0 0 117 [mA 1, mU, mU, mL v3, mU, mL v5, mU, mL v7, mU, mL v9, mU, mU, mU] [] := by
  unfold fX0_weigh_117 at h
  exact loop_ok (P := fX0_weigh_117P w l G (QM w G WF none d' m 0 0) m d a1 a2 v3 v5) (fun s x hx h1 h2 => fX0_weigh_117f_ok F hX hp hx (by
    cases x with
    | inl s' => exact h1 s' rfl
    | inr z => cases h2 z rfl; exact K)) h
theorem fX0_weigh_89_ok {w : Wd} {l : Launch} {G : Cx} {d m dd : Dt} {a1 a2 v5 s0 s1 : Int} {d' : Dt} {x : ((Int × Int) ⊕ Dt)} (F : Fx w G cX0_weigh RX0 13 none { frames := 1, cells := 0, slots := 0, locals := 21 }) (hX : WF dd m) (hp : PB m 1 0) (h : fX0_weigh_89 d a1 a2 v5 s0 s1 = some x) (K : (Sum.elim (fX0_weigh_5P w l G (QM w G WF none d' m 0 0) m d a1 a2) (fun q => q = d')) x) : V w l WF G (QM w G WF none d' m 0 0) d m 0 0 89 [mA 1, mI a1, mI a2, mU, mU, mI v5, mU, mU, mU, mU, mU, mU, mU] [mL s1, mL s0] := by
  unfold fX0_weigh_89 at h
  refine v_ladd F dX0_weigh_89 ?_
  obtain ⟨x15, ex15, h⟩ := lv_some h
  refine v_nL ex15 ?_
  refine v_lstore_n F dX0_weigh_90 rfl (Nat.le_of_ble_eq_true rfl) (L' := [mA 1, mI a1, mI a2, mL x15, mU, mI v5, mU, mU, mU, mU, mU, mU, mU]) rfl ?_
  obtain ⟨x16, ex16, h⟩ := lv_some h
  refine v_iincN F dX0_weigh_91 (Nat.le_of_ble_eq_true rfl) rfl ex16 (L' := [mA 1, mI a1, mI a2, mL x15, mU, mI x16, mU, mU, mU, mU, mU, mU, mU]) rfl ?_
  refine v_goto F dX0_weigh_94 rfl ?_
  cases h
  exact K
theorem fX0_weigh_45_ok {w : Wd} {l : Launch} {G : Cx} {d m dd : Dt} {a1 a2 v3 v5 s0 : Int} {d' : Dt} {x : ((Int × Int) ⊕ Dt)} (F : Fx w G cX0_weigh RX0 13 none { frames := 1, cells := 0, slots := 0, locals := 21 }) (hX : WF dd m) (hp : PB m 1 0) (h : fX0_weigh_45 d a1 a2 v3 v5 s0 = some x) (K : (Sum.elim (fX0_weigh_5P w l G (QM w G WF none d' m 0 0) m d a1 a2) (fun q => q = d')) x) : V w l WF G (QM w G WF none d' m 0 0) d m 0 0 45 [mA 1, mI a1, mI a2, mL v3, mU, mI v5, mU, mU, mU, mU, mU, mU, mU] [mI s0] := by
  unfold fX0_weigh_45 at h
  refine v_istore F dX0_weigh_45 (Nat.le_of_ble_eq_true rfl) (L' := [mA 1, mI a1, mI a2, mL v3, mU, mI v5, mI s0, mU, mU, mU, mU, mU, mU]) rfl ?_
  refine v_lload_n F dX0_weigh_47 rfl rfl ?_
  refine v_iload F dX0_weigh_48 rfl ?_
  refine v_if_eq F dX0_weigh_50 rfl (fun hq14 => ?_) (fun hq14 => ?_)
  · rw [if_pos hq14] at h
    refine v_lconst0 F dX0_weigh_88 ?_
    refine v_fgt (L' := [mA 1, mI a1, mI a2, mU, mU, mI v5, mU, mU, mU, mU, mU, mU, mU]) ⟨Or.inl rfl, Or.inl rfl, Or.inl rfl, Or.inr rfl, Or.inl rfl, Or.inl rfl, Or.inr rfl, Or.inl rfl, Or.inl rfl, Or.inl rfl, Or.inl rfl, Or.inl rfl, Or.inl rfl, trivial⟩ ?_
    exact fX0_weigh_89_ok F hX hp h K
  · rw [if_neg hq14] at h
    refine v_aload_n F dX0_weigh_53 rfl rfl ?_
    refine gf_X0_148 F dX0_weigh_54 hp (v := 567) rfl ?_
    refine v_aload_n F dX0_weigh_57 rfl rfl ?_
    refine gf_X0_641 F dX0_weigh_58 hp ?_
    obtain ⟨x17, ex17, h⟩ := lv_some h
    refine v_nI ex17 ?_
    obtain ⟨hi18, h⟩ := ck_some h
    refine v_aaldF (c := 0) (k := 48) F dX0_weigh_61 hp (Nat.le_of_ble_eq_true rfl) (Nat.le_of_ble_eq_true rfl) (by decide) (by decide) rfl (ar_X0_48 hX hp) (Nat.le_of_ble_eq_true rfl) rfl rfl rfl rfl hi18 (v := (568 + x17)) (by show 1 + 567 + 1 * x17 = _; omega) ?_
    refine v_iload F dX0_weigh_62 rfl ?_
    obtain ⟨hi19, h⟩ := ck_some h
    refine v_lald F dX0_weigh_64 (ae_X0_48 (i := x17) hX hp hi18 (v := (568 + x17)) (by omega)) hi19 ?_
    refine v_aload_n F dX0_weigh_65 rfl rfl ?_
    refine gf_X0_148 F dX0_weigh_66 hp (v := 567) rfl ?_
    refine v_aload_n F dX0_weigh_69 rfl rfl ?_
    refine gf_X0_627 F dX0_weigh_70 hp ?_
    refine v_aload_n F dX0_weigh_73 rfl rfl ?_
    refine gf_X0_641 F dX0_weigh_74 hp ?_
    refine v_isub F dX0_weigh_77 ?_
    obtain ⟨x20, ex20, h⟩ := lv_some h
    refine v_nI ex20 ?_
    obtain ⟨hi21, h⟩ := ck_some h
    refine v_aaldF (c := 0) (k := 48) F dX0_weigh_78 hp (Nat.le_of_ble_eq_true rfl) (Nat.le_of_ble_eq_true rfl) (by decide) (by decide) rfl (ar_X0_48 hX hp) (Nat.le_of_ble_eq_true rfl) rfl rfl rfl rfl hi21 (v := (568 + x20)) (by show 1 + 567 + 1 * x20 = _; omega) ?_
    refine v_iload_n F dX0_weigh_79 rfl rfl ?_
    refine v_iload F dX0_weigh_80 rfl ?_
    refine v_isub F dX0_weigh_82 ?_
    obtain ⟨x22, ex22, h⟩ := lv_some h
    refine v_nI ex22 ?_
    obtain ⟨hi23, h⟩ := ck_some h
    refine v_lald F dX0_weigh_83 (ae_X0_48 (i := x20) hX hp hi21 (v := (568 + x20)) (by omega)) hi23 ?_
    refine v_lmul F dX0_weigh_84 ?_
    refine v_goto F dX0_weigh_85 rfl ?_
    refine v_fgt (L' := [mA 1, mI a1, mI a2, mU, mU, mI v5, mU, mU, mU, mU, mU, mU, mU]) ⟨Or.inl rfl, Or.inl rfl, Or.inl rfl, Or.inr rfl, Or.inl rfl, Or.inl rfl, Or.inr rfl, Or.inl rfl, Or.inl rfl, Or.inl rfl, Or.inl rfl, Or.inl rfl, Or.inl rfl, trivial⟩ ?_
    exact fX0_weigh_89_ok F hX hp h K
theorem fX0_weigh_5f_ok {w : Wd} {l : Launch} {G : Cx} {d m dd : Dt} {a1 a2 : Int} {d' : Dt} {s : Int × Int} {x : ((Int × Int) ⊕ Dt)} (F : Fx w G cX0_weigh RX0 13 none { frames := 1, cells := 0, slots := 0, locals := 21 }) (hX : WF dd m) (hp : PB m 1 0) (h : fX0_weigh_5f d a1 a2 s = some x) (K : (Sum.elim (fX0_weigh_5P w l G (QM w G WF none d' m 0 0) m d a1 a2) (fun q => q = d')) x) : V w l WF G (QM w G WF none d' m 0 0) d m 0 0 5 [mA 1, mI a1, mI a2, mL (s.1), mU, mI (s.2), mU, mU, mU, mU, mU, mU, mU] [] := by
  obtain ⟨v3, v5⟩ := s
  unfold fX0_weigh_5f at h
  dsimp only at h
  refine v_iload F dX0_weigh_5 rfl ?_
  refine v_iload_n F dX0_weigh_7 rfl rfl ?_
  refine v_aload_n F dX0_weigh_8 rfl rfl ?_
  refine gf_X0_641 F dX0_weigh_9 hp ?_
  refine v_callSv F dX0_weigh_12 cs_X0_644 rfl (vm_J9_min) rfl (rOk.of rfl) ?_
  refine v_icmp_gt F dX0_weigh_15 rfl (fun hq1 => ?_) (fun hq1 => ?_)
  · rw [if_pos hq1] at h
    obtain ⟨z, hu, ez⟩ := up_some h
    clear h
    subst ez
    have h := hu
    clear hu
    refine v_aload_n F dX0_weigh_97 rfl rfl ?_
    refine gf_X0_148 F dX0_weigh_98 hp (v := 567) rfl ?_
    refine v_aload_n F dX0_weigh_101 rfl rfl ?_
    refine gf_X0_627 F dX0_weigh_102 hp ?_
    obtain ⟨x2, ex2, h⟩ := lv_some h
    refine v_nI ex2 ?_
    obtain ⟨hi3, h⟩ := ck_some h
    refine v_aaldF (c := 0) (k := 48) F dX0_weigh_105 hp (Nat.le_of_ble_eq_true rfl) (Nat.le_of_ble_eq_true rfl) (by decide) (by decide) rfl (ar_X0_48 hX hp) (Nat.le_of_ble_eq_true rfl) rfl rfl rfl rfl hi3 (v := (568 + x2)) (by show 1 + 567 + 1 * x2 = _; omega) ?_
    refine v_iload_n F dX0_weigh_106 rfl rfl ?_
    obtain ⟨hi4, h⟩ := ck_some h
    refine v_lald F dX0_weigh_107 (ae_X0_48 (i := x2) hX hp hi3 (v := (568 + x2)) (by omega)) hi4 ?_
    obtain ⟨x5, ex5, h⟩ := lv_some h
    refine v_nL ex5 ?_
    refine v_lstore F dX0_weigh_108 (Nat.le_of_ble_eq_true rfl) (L' := [mA 1, mI a1, mI a2, mL v3, mU, mL x5, mU, mU, mU, mU, mU, mU, mU]) rfl ?_
    refine v_lload_n F dX0_weigh_110 rfl rfl ?_
    refine v_lstore F dX0_weigh_111 (Nat.le_of_ble_eq_true rfl) (L' := [mA 1, mI a1, mI a2, mL v3, mU, mL x5, mU, mL v3, mU, mU, mU, mU, mU]) rfl ?_
    refine v_lload F dX0_weigh_113 rfl ?_
    refine v_lstore F dX0_weigh_115 (Nat.le_of_ble_eq_true rfl) (L' := [mA 1, mI a1, mI a2, mL v3, mU, mL x5, mU, mL v3, mU, mL x5, mU, mU, mU]) rfl ?_
    refine v_fgt (L' := [mA 1, mU, mU, mL v3, mU, mL x5, mU, mL v3, mU, mL x5, mU, mU, mU]) ⟨Or.inl rfl, Or.inr rfl, Or.inr rfl, Or.inl rfl, Or.inl rfl, Or.inl rfl, Or.inl rfl, Or.inl rfl, Or.inl rfl, Or.inl rfl, Or.inl rfl, Or.inl rfl, Or.inl rfl, trivial⟩ ?_
    exact fX0_weigh_117_ok F hX hp h K
  · rw [if_neg hq1] at h
    refine v_iload F dX0_weigh_18 rfl ?_
    refine v_iload_n F dX0_weigh_20 rfl rfl ?_
    refine v_icmp_gt F dX0_weigh_21 rfl (fun hq13 => ?_) (fun hq13 => ?_)
    · rw [if_pos hq13] at h
      refine v_iconst F dX0_weigh_44 ⟨by decide, by decide⟩ ?_
      exact fX0_weigh_45_ok F hX hp h K
    · rw [if_neg hq13] at h
      refine v_iload_n F dX0_weigh_24 rfl rfl ?_
      refine v_iload F dX0_weigh_25 rfl ?_
      refine v_isub F dX0_weigh_27 ?_
      refine v_aload_n F dX0_weigh_28 rfl rfl ?_
      refine gf_X0_627 F dX0_weigh_29 hp ?_
      refine v_aload_n F dX0_weigh_32 rfl rfl ?_
      refine gf_X0_641 F dX0_weigh_33 hp ?_
      refine v_isub F dX0_weigh_36 ?_
      refine v_icmp_gt F dX0_weigh_37 rfl (fun hq24 => ?_) (fun hq24 => ?_)
      · rw [if_pos hq24] at h
        refine v_iconst F dX0_weigh_44 ⟨by decide, by decide⟩ ?_
        exact fX0_weigh_45_ok F hX hp h K
      · rw [if_neg hq24] at h
        refine v_iconst F dX0_weigh_40 ⟨by decide, by decide⟩ ?_
        refine v_goto F dX0_weigh_41 rfl ?_
        exact fX0_weigh_45_ok F hX hp h K
theorem fX0_weigh_5_ok {w : Wd} {l : Launch} {G : Cx} {d m dd : Dt} {a1 a2 v3 v5 : Int} {d' : Dt} {x : Dt} (F : Fx w G cX0_weigh RX0 13 none { frames := 1, cells := 0, slots := 0, locals := 21 }) (hX : WF dd m) (hp : PB m 1 0) (h : fX0_weigh_5 d a1 a2 v3 v5 = some x) (K : (fun q => q = d') x) : V w l WF G (QM w G WF none d' m 0 0) d m 0 0 5 [mA 1, mI a1, mI a2, mL v3, mU, mI v5, mU, mU, mU, mU, mU, mU, mU] [] := by
  unfold fX0_weigh_5 at h
  exact loop_ok (P := fX0_weigh_5P w l G (QM w G WF none d' m 0 0) m d a1 a2) (fun s x hx h1 h2 => fX0_weigh_5f_ok F hX hp hx (by
    cases x with
    | inl s' => exact h1 s' rfl
    | inr z => cases h2 z rfl; exact K)) h
theorem vm_X0_weigh {w : Wd} {l : Launch} {d m : Dt} {a1 a2 : Int} {d' : Dt} (hp : PB m 1 0) (h : fX0_weigh d a1 a2 = some d') : VM w l WF yX0_weigh cX0_weigh 13 none 1 21 0 0 d m [mA 1, mI a1, mI a2] none d' m := by
  obtain ⟨x, h, K⟩ : ∃ x, fX0_weigh d a1 a2 = some x ∧ x = d' := ⟨_, h, rfl⟩
  refine VM.of (L := [mA 1, mI a1, mI a2, mU, mU, mU, mU, mU, mU, mU, mU, mU, mU]) (by decide +kernel) rfl (Nat.le_of_ble_eq_true rfl) fun G F _ => v_fact fun _ hX _ _ => ?_
  unfold fX0_weigh at h
  refine v_lconst0 F dX0_weigh_0 ?_
  refine v_lstore_n F dX0_weigh_1 rfl (Nat.le_of_ble_eq_true rfl) (L' := [mA 1, mI a1, mI a2, mL 0, mU, mU, mU, mU, mU, mU, mU, mU, mU]) rfl ?_
  refine v_iconst F dX0_weigh_2 ⟨by decide, by decide⟩ ?_
  refine v_istore F dX0_weigh_3 (Nat.le_of_ble_eq_true rfl) (L' := [mA 1, mI a1, mI a2, mL 0, mU, mI 0, mU, mU, mU, mU, mU, mU, mU]) rfl ?_
  exact fX0_weigh_5_ok F hX hp h K
def fX0_sample_130P (w : Wd) (l : Launch) (G : Cx) (Q : State → Prop) (m : Dt) (d : Dt) (a1 a2 a3 : Int) (s : Int × Int) : Prop := V w l WF G Q d m 0 0 130 [mA 1, mI a1, mI a2, mL a3, mU, mU, mU, mI (s.1), mI (s.2)] []
theorem fX0_sample_156_ok {w : Wd} {l : Launch} {G : Cx} {d m dd : Dt} {a1 a2 a3 v8 s0 s1 : Int} {d' : Dt} {r : Int} {x : ((Int × Int) ⊕ (Dt × Int))} (F : Fx w G cX0_sample RX0 9 (some .int) { frames := 8, cells := 0, slots := 0, locals := 192 }) (hX : WF dd m) (hp : PB m 1 0) (h : fX0_sample_156 d a1 a2 a3 v8 s0 s1 = some x) (K : (Sum.elim (fX0_sample_130P w l G (QM w G WF (some (mI r)) d' m 0 0) m d a1 a2 a3) (fun q => q = (d', r))) x) : V w l WF G (QM w G WF (some (mI r)) d' m 0 0) d m 0 0 156 [mA 1, mI a1, mI a2, mL a3, mU, mU, mU, mU, mI v8] [mI s1, mI s0] := by
  unfold fX0_sample_156 at h
  refine v_iadd F dX0_sample_156 ?_
  obtain ⟨x34, ex34, h⟩ := lv_some h
  refine v_nI ex34 ?_
  refine v_istore F dX0_sample_157 (Nat.le_of_ble_eq_true rfl) (L' := [mA 1, mI a1, mI a2, mL a3, mU, mU, mU, mI x34, mI v8]) rfl ?_
  obtain ⟨x35, ex35, h⟩ := lv_some h
  refine v_iincN F dX0_sample_159 (Nat.le_of_ble_eq_true rfl) rfl ex35 (L' := [mA 1, mI a1, mI a2, mL a3, mU, mU, mU, mI x34, mI x35]) rfl ?_
  refine v_goto F dX0_sample_162 rfl ?_
  cases h
  exact K
theorem fX0_sample_130f_ok {w : Wd} {l : Launch} {G : Cx} {d m dd : Dt} {a1 a2 a3 : Int} {d' : Dt} {r : Int} {s : Int × Int} {x : ((Int × Int) ⊕ (Dt × Int))} (F : Fx w G cX0_sample RX0 9 (some .int) { frames := 8, cells := 0, slots := 0, locals := 192 }) (hX : WF dd m) (hp : PB m 1 0) (h : fX0_sample_130f d a1 a2 a3 s = some x) (K : (Sum.elim (fX0_sample_130P w l G (QM w G WF (some (mI r)) d' m 0 0) m d a1 a2 a3) (fun q => q = (d', r))) x) : V w l WF G (QM w G WF (some (mI r)) d' m 0 0) d m 0 0 130 [mA 1, mI a1, mI a2, mL a3, mU, mU, mU, mI (s.1), mI (s.2)] [] := by
  obtain ⟨v7, v8⟩ := s
  unfold fX0_sample_130f at h
  dsimp only at h
  refine v_iload F dX0_sample_130 rfl ?_
  refine v_aload_n F dX0_sample_132 rfl rfl ?_
  refine gf_X0_290 F dX0_sample_133 hp ?_
  refine v_icmp_ge F dX0_sample_136 rfl (fun hq27 => ?_) (fun hq27 => ?_)
  · rw [if_pos hq27] at h
    obtain ⟨z, hu, ez⟩ := up_some h
    clear h
    subst ez
    have h := hu
    clear hu
    refine v_aload_n F dX0_sample_165 rfl rfl ?_
    refine v_iload_n F dX0_sample_166 rfl rfl ?_
    refine v_iload F dX0_sample_167 rfl ?_
    obtain ⟨d28, hc29, h⟩ := bd_some h
    refine v_callV0 (c := 0) F dX0_sample_169 cv_X0_666 rfl (PB.ob hp hX (Nat.le_of_ble_eq_true rfl)) (Nat.le_of_ble_eq_true rfl) rfl (vm_X0_weigh hp hc29) rfl (rOk.of rfl) ?_
    refine v_aload_n F dX0_sample_172 rfl rfl ?_
    refine v_bipush F dX0_sample_173 rfl ⟨by decide, by decide⟩ ?_
    refine v_iload_n F dX0_sample_175 rfl rfl ?_
    refine v_iload_n F dX0_sample_176 rfl rfl ?_
    refine v_lload_n F dX0_sample_177 rfl rfl ?_
    refine v_bipush F dX0_sample_178 rfl ⟨by decide, by decide⟩ ?_
    refine v_lshr F dX0_sample_180 ?_
    refine v_l2i F dX0_sample_181 ?_
    refine v_lload_n F dX0_sample_182 rfl rfl ?_
    refine v_l2i F dX0_sample_183 ?_
    obtain ⟨d30, hc31, h⟩ := bd_some h
    refine v_callV0 (c := 0) F dX0_sample_184 cv_X0_173 rfl (PB.ob hp hX (Nat.le_of_ble_eq_true rfl)) (Nat.le_of_ble_eq_true rfl) rfl (vm_X0_write hp hc31) rfl (rOk.of rfl) ?_
    refine v_iload F dX0_sample_187 rfl ?_
    cases h
    cases (show _ = (d', r) from K)
    exact v_iret F dX0_sample_189
  · rw [if_neg hq27] at h
    refine v_iload F dX0_sample_139 rfl ?_
    refine v_aload_n F dX0_sample_141 rfl rfl ?_
    refine gf_X0_140 F dX0_sample_142 hp (v := 565) rfl ?_
    refine v_iload F dX0_sample_145 rfl ?_
    obtain ⟨hi32, h⟩ := ck_some h
    refine v_zald F dX0_sample_147 (ar_X0_40 hX hp) hi32 ?_
    refine v_if_eq F dX0_sample_148 rfl (fun hq33 => ?_) (fun hq33 => ?_)
    · rw [if_pos hq33] at h
      refine v_iconst F dX0_sample_155 ⟨by decide, by decide⟩ ?_
      refine v_fgt (L' := [mA 1, mI a1, mI a2, mL a3, mU, mU, mU, mU, mI v8]) ⟨Or.inl rfl, Or.inl rfl, Or.inl rfl, Or.inl rfl, Or.inl rfl, Or.inl rfl, Or.inl rfl, Or.inr rfl, Or.inl rfl, trivial⟩ ?_
      exact fX0_sample_156_ok F hX hp h K
    · rw [if_neg hq33] at h
      refine v_iconst F dX0_sample_151 ⟨by decide, by decide⟩ ?_
      refine v_goto F dX0_sample_152 rfl ?_
      refine v_fgt (L' := [mA 1, mI a1, mI a2, mL a3, mU, mU, mU, mU, mI v8]) ⟨Or.inl rfl, Or.inl rfl, Or.inl rfl, Or.inl rfl, Or.inl rfl, Or.inl rfl, Or.inl rfl, Or.inr rfl, Or.inl rfl, trivial⟩ ?_
      exact fX0_sample_156_ok F hX hp h K
theorem fX0_sample_130_ok {w : Wd} {l : Launch} {G : Cx} {d m dd : Dt} {a1 a2 a3 v7 v8 : Int} {d' : Dt} {r : Int} {x : (Dt × Int)} (F : Fx w G cX0_sample RX0 9 (some .int) { frames := 8, cells := 0, slots := 0, locals := 192 }) (hX : WF dd m) (hp : PB m 1 0) (h : fX0_sample_130 d a1 a2 a3 v7 v8 = some x) (K : (fun q => q = (d', r)) x) : V w l WF G (QM w G WF (some (mI r)) d' m 0 0) d m 0 0 130 [mA 1, mI a1, mI a2, mL a3, mU, mU, mU, mI v7, mI v8] [] := by
  unfold fX0_sample_130 at h
  exact loop_ok (P := fX0_sample_130P w l G (QM w G WF (some (mI r)) d' m 0 0) m d a1 a2 a3) (fun s x hx h1 h2 => fX0_sample_130f_ok F hX hp hx (by
    cases x with
    | inl s' => exact h1 s' rfl
    | inr z => cases h2 z rfl; exact K)) h
theorem vm_X0_sample {w : Wd} {l : Launch} {d m : Dt} {a1 a2 a3 : Int} {d' : Dt} {r : Int} (hp : PB m 1 0) (h : fX0_sample d a1 a2 a3 = some (d', r)) : VM w l WF yX0_sample cX0_sample 9 (some .int) 8 192 0 0 d m [mA 1, mI a1, mI a2, mL a3] (some (mI r)) d' m := by
  obtain ⟨x, h, K⟩ : ∃ x, fX0_sample d a1 a2 a3 = some x ∧ x = (d', r) := ⟨_, h, rfl⟩
  refine VM.of (L := [mA 1, mI a1, mI a2, mL a3, mU, mU, mU, mU, mU]) (by decide +kernel) rfl (Nat.le_of_ble_eq_true rfl) fun G F _ => v_fact fun _ hX _ _ => ?_
  unfold fX0_sample at h
  refine v_aload_n F dX0_sample_0 rfl rfl ?_
  refine v_iload_n F dX0_sample_1 rfl rfl ?_
  obtain ⟨x1, hc2, h⟩ := b1_some h
  refine v_callVv (c := 0) F dX0_sample_2 cv_X0_296 rfl (PB.ob hp hX (Nat.le_of_ble_eq_true rfl)) (Nat.le_of_ble_eq_true rfl) rfl (vm_X0_isContest hp hc2) rfl (rOk.of rfl) ?_
  refine v_if_ne F dX0_sample_5 rfl (fun hq3 => ?_) (fun hq3 => ?_)
  · rw [if_neg hq3] at h
    refine v_aload_n F dX0_sample_10 rfl rfl ?_
    obtain ⟨x4, hc5, h⟩ := b1_some h
    refine v_callVv (c := 0) F dX0_sample_11 cv_X0_577 rfl (PB.ob hp hX (Nat.le_of_ble_eq_true rfl)) (Nat.le_of_ble_eq_true rfl) rfl (vm_X0_isReady hp hc5) rfl (rOk.of rfl) ?_
    refine v_if_ne F dX0_sample_14 rfl (fun hq6 => ?_) (fun hq6 => ?_)
    · rw [if_neg hq6] at h
      refine v_aload_n F dX0_sample_20 rfl rfl ?_
      obtain ⟨x7, ex7, h⟩ := lv_some h
      obtain ⟨hn9, h⟩ := ck_some h
      refine gf_X0_42 F dX0_sample_21 hp ex7 fun hr8 => ?_
      have x7p := hr8.resolve_left hn9
      refine gf_X0_299 F dX0_sample_24 x7p (v := (x7 + 11)) rfl ?_
      refine v_iload_n F dX0_sample_27 rfl rfl ?_
      obtain ⟨hi10, h⟩ := ck_some h
      refine v_aaldF (c := 4) (k := 13) F dX0_sample_28 x7p (Nat.le_of_ble_eq_true rfl) (Nat.le_of_ble_eq_true rfl) (by decide) (by decide) rfl (ar_X4_13 hX x7p) (Nat.le_of_ble_eq_true rfl) rfl rfl rfl rfl hi10 (v := ((x7 + 13) + a1)) (by show x7 + 13 + 1 * a1 = _; omega) ?_
      obtain ⟨x11, ex11, h⟩ := lv_some h
      refine v_nA ex11 ?_
      have x11p : PB m x11 6 := by rw [ex11]; exact (ae_X4_13 (i := a1) hX x7p hi10 (v := ((x7 + 13) + a1)) (by omega))
      refine v_astore F dX0_sample_29 (Nat.le_of_ble_eq_true rfl) (L' := [mA 1, mI a1, mI a2, mL a3, mU, mA x11, mU, mU, mU]) rfl ?_
      refine v_aload F dX0_sample_31 rfl ?_
      refine gf_X0_311 F dX0_sample_33 x11p ?_
      refine v_iconst F dX0_sample_36 ⟨by decide, by decide⟩ ?_
      refine v_icmp_gt F dX0_sample_37 rfl (fun hq12 => ?_) (fun hq12 => ?_)
      · rw [if_pos hq12] at h
        refine v_bipush F dX0_sample_67 rfl ⟨by decide, by decide⟩ ?_
        cases h
        cases (show _ = (d', r) from K)
        exact v_iret F dX0_sample_69
      · rw [if_neg hq12] at h
        refine v_aload_n F dX0_sample_40 rfl rfl ?_
        refine gf_X0_62 F dX0_sample_41 hp (v := 57) rfl ?_
        refine v_iload_n F dX0_sample_44 rfl rfl ?_
        refine v_aaldF (c := 0) (k := 13) F dX0_sample_45 hp (Nat.le_of_ble_eq_true rfl) (Nat.le_of_ble_eq_true rfl) (by decide) (by decide) rfl (ar_X0_13 hX hp) (Nat.le_of_ble_eq_true rfl) rfl rfl rfl rfl hi10 (v := (629 + 8 * a1)) (by show 1 + 628 + 8 * a1 = _; omega) ?_
        refine gf_X0_317 F dX0_sample_46 (ae_X0_13 (i := a1) hX hp hi10 (v := (629 + 8 * a1)) (by omega)) ?_
        refine v_aload_n F dX0_sample_49 rfl rfl ?_
        refine gf_X0_62 F dX0_sample_50 hp (v := 57) rfl ?_
        refine v_iload_n F dX0_sample_53 rfl rfl ?_
        refine v_aaldF (c := 0) (k := 13) F dX0_sample_54 hp (Nat.le_of_ble_eq_true rfl) (Nat.le_of_ble_eq_true rfl) (by decide) (by decide) rfl (ar_X0_13 hX hp) (Nat.le_of_ble_eq_true rfl) rfl rfl rfl rfl hi10 (v := (629 + 8 * a1)) (by show 1 + 628 + 8 * a1 = _; omega) ?_
        obtain ⟨x13, hc14, h⟩ := b1_some h
        refine v_callVv (c := 9) F dX0_sample_55 cv_X0_320 rfl (PB.ob (ae_X0_13 (i := a1) hX hp hi10 (v := (629 + 8 * a1)) (by omega)) hX (Nat.le_of_ble_eq_true rfl)) (Nat.le_of_ble_eq_true rfl) rfl (vm_X9_struck (ae_X0_13 (i := a1) hX hp hi10 (v := (629 + 8 * a1)) (by omega)) hc14) rfl (rOk.of rfl) ?_
        refine v_isub F dX0_sample_58 ?_
        refine v_aload F dX0_sample_59 rfl ?_
        refine gf_X0_308 F dX0_sample_61 x11p ?_
        refine v_icmp_gt F dX0_sample_64 rfl (fun hq15 => ?_) (fun hq15 => ?_)
        · rw [if_pos hq15] at h
          refine v_aload_n F dX0_sample_70 rfl rfl ?_
          refine v_iload_n F dX0_sample_71 rfl rfl ?_
          obtain ⟨x16, hc17, h⟩ := b1_some h
          refine v_callVv (c := 0) F dX0_sample_72 cv_X0_653 rfl (PB.ob hp hX (Nat.le_of_ble_eq_true rfl)) (Nat.le_of_ble_eq_true rfl) rfl (vm_X0_gather hp hc17) rfl (rOk.of rfl) ?_
          refine v_istore F dX0_sample_75 (Nat.le_of_ble_eq_true rfl) (L' := [mA 1, mI a1, mI a2, mL a3, mU, mA x11, mI x16, mU, mU]) rfl ?_
          refine v_iload_n F dX0_sample_77 rfl rfl ?_
          refine v_iconst F dX0_sample_78 ⟨by decide, by decide⟩ ?_
          refine v_iload F dX0_sample_79 rfl ?_
          refine v_callSv F dX0_sample_81 cs_X0_163 rfl (vm_X0_within) rfl (rOk.of rfl) ?_
          refine v_if_ne F dX0_sample_84 rfl (fun hq18 => ?_) (fun hq18 => ?_)
          · rw [if_neg hq18] at h
            refine v_aload_n F dX0_sample_90 rfl rfl ?_
            refine v_iload F dX0_sample_91 rfl ?_
            obtain ⟨d19, ed19, h⟩ := sd_some h
            refine pf_X0_627 F dX0_sample_93 hp ?_
            refine v_nD ed19 ?_
            refine v_aload_n F dX0_sample_96 rfl rfl ?_
            refine v_aload_n F dX0_sample_97 rfl rfl ?_
            refine v_iload_n F dX0_sample_98 rfl rfl ?_
            obtain ⟨d20, x22, hc21, h⟩ := b2_some h
            refine v_callVv (c := 0) F dX0_sample_99 cv_X0_656 rfl (PB.ob hp hX (Nat.le_of_ble_eq_true rfl)) (Nat.le_of_ble_eq_true rfl) rfl (vm_X0_margin hp hc21) rfl (rOk.of rfl) ?_
            obtain ⟨d23, ed23, h⟩ := sd_some h
            refine pf_X0_659 F dX0_sample_102 hp ?_
            refine v_nD ed23 ?_
            refine v_aload_n F dX0_sample_105 rfl rfl ?_
            refine v_aload_n F dX0_sample_106 rfl rfl ?_
            refine gf_X0_659 F dX0_sample_107 hp ?_
            refine v_iconst F dX0_sample_110 ⟨by decide, by decide⟩ ?_
            refine v_iadd F dX0_sample_111 ?_
            refine v_iconst F dX0_sample_112 ⟨by decide, by decide⟩ ?_
            refine v_idiv F dX0_sample_113 (by decide) ?_
            obtain ⟨d24, ed24, h⟩ := sd_some h
            refine pf_X0_641 F dX0_sample_114 hp ?_
            refine v_nD ed24 ?_
            refine v_aload_n F dX0_sample_117 rfl rfl ?_
            refine v_iload_n F dX0_sample_118 rfl rfl ?_
            refine v_iload_n F dX0_sample_119 rfl rfl ?_
            refine v_lload_n F dX0_sample_120 rfl rfl ?_
            obtain ⟨d25, hc26, h⟩ := bd_some h
            refine v_callV0 (c := 0) F dX0_sample_121 cv_X0_662 rfl (PB.ob hp hX (Nat.le_of_ble_eq_true rfl)) (Nat.le_of_ble_eq_true rfl) rfl (vm_X0_drawAll hp hc26) rfl (rOk.of rfl) ?_
            refine v_iconst F dX0_sample_124 ⟨by decide, by decide⟩ ?_
            refine v_istore F dX0_sample_125 (Nat.le_of_ble_eq_true rfl) (L' := [mA 1, mI a1, mI a2, mL a3, mU, mA x11, mI x16, mI 0, mU]) rfl ?_
            refine v_iconst F dX0_sample_127 ⟨by decide, by decide⟩ ?_
            refine v_istore F dX0_sample_128 (Nat.le_of_ble_eq_true rfl) (L' := [mA 1, mI a1, mI a2, mL a3, mU, mA x11, mI x16, mI 0, mI 0]) rfl ?_
            refine v_fgt (L' := [mA 1, mI a1, mI a2, mL a3, mU, mU, mU, mI 0, mI 0]) ⟨Or.inl rfl, Or.inl rfl, Or.inl rfl, Or.inl rfl, Or.inl rfl, Or.inr rfl, Or.inr rfl, Or.inl rfl, Or.inl rfl, trivial⟩ ?_
            exact fX0_sample_130_ok F hX hp h K
          · rw [if_pos hq18] at h
            refine v_bipush F dX0_sample_87 rfl ⟨by decide, by decide⟩ ?_
            cases h
            cases (show _ = (d', r) from K)
            exact v_iret F dX0_sample_89
        · rw [if_neg hq15] at h
          refine v_bipush F dX0_sample_67 rfl ⟨by decide, by decide⟩ ?_
          cases h
          cases (show _ = (d', r) from K)
          exact v_iret F dX0_sample_69
    · rw [if_pos hq6] at h
      refine v_bipush F dX0_sample_17 rfl ⟨by decide, by decide⟩ ?_
      cases h
      cases (show _ = (d', r) from K)
      exact v_iret F dX0_sample_19
  · rw [if_pos hq3] at h
    refine v_iconst F dX0_sample_8 ⟨by decide, by decide⟩ ?_
    cases h
    cases (show _ = (d', r) from K)
    exact v_iret F dX0_sample_9
def fX11_draw_10P (w : Wd) (l : Launch) (G : Cx) (Q : State → Prop) (m : Dt) (a1 a2 a3 a4 : Int) (s : Dt × Int × Int × Int) : Prop := V w l WF G Q s.1 m 0 0 10 [mA 1545, mI a1, mI a2, mI a3, mU, mU, mL (s.2.1), mU, mI (s.2.2.1), mI (s.2.2.2), mU, mU, mU, mU, mU, mU] []
def fX11_draw_73P (w : Wd) (l : Launch) (G : Cx) (Q : State → Prop) (m : Dt) (a1 a2 a3 a4 v6 v8 v9 v10 : Int) (s : Dt × Int) : Prop := V w l WF G Q s.1 m 0 0 73 [mA 1545, mI a1, mI a2, mI a3, mU, mU, mL v6, mU, mI v8, mI v9, mI v10, mU, mI (s.2), mU, mU, mU] []
def fX11_draw_177P (w : Wd) (l : Launch) (G : Cx) (Q : State → Prop) (m : Dt) (d : Dt) (a1 a2 a3 a4 v6 v8 v9 v13 : Int) (s : Int × Int) : Prop := V w l WF G Q d m 0 0 177 [mA 1545, mI a1, mI a2, mI a3, mU, mU, mL v6, mU, mI v8, mI v9, mU, mU, mU, mI v13, mI (s.1), mI (s.2)] []
theorem fX11_draw_248_ok {w : Wd} {l : Launch} {G : Cx} {d m dd : Dt} {a1 a2 a3 a4 v6 v9 s0 s1 : Int} {d' : Dt} {r : Int} {x : ((Dt × Int × Int × Int) ⊕ (Dt × Int))} (F : Fx w G cX11_draw RX11 16 (some .int) { frames := 1, cells := 0, slots := 0, locals := 23 }) (hX : WF dd m) (hp : PB m 1545 11) (h : fX11_draw_248 d a1 a2 a3 a4 v6 v9 s0 s1 = some x) (K : (Sum.elim (fX11_draw_10P w l G (QM w G WF (some (mI r)) d' m 0 0) m a1 a2 a3 a4) (fun q => q = (d', r))) x) : V w l WF G (QM w G WF (some (mI r)) d' m 0 0) d m 0 0 248 [mA 1545, mI a1, mI a2, mI a3, mU, mU, mL v6, mU, mU, mI v9, mU, mU, mU, mU, mU, mU] [mI s1, mI s0] := by
  unfold fX11_draw_248 at h
  refine v_iadd F dX11_draw_248 ?_
  obtain ⟨x25, ex25, h⟩ := lv_some h
  refine v_nI ex25 ?_
  refine v_istore F dX11_draw_249 (Nat.le_of_ble_eq_true rfl) (L' := [mA 1545, mI a1, mI a2, mI a3, mU, mU, mL v6, mU, mI x25, mI v9, mU, mU, mU, mU, mU, mU]) rfl ?_
  obtain ⟨x26, ex26, h⟩ := lv_some h
  refine v_iincN F dX11_draw_251 (Nat.le_of_ble_eq_true rfl) rfl ex26 (L' := [mA 1545, mI a1, mI a2, mI a3, mU, mU, mL v6, mU, mI x25, mI x26, mU, mU, mU, mU, mU, mU]) rfl ?_
  refine v_goto F dX11_draw_254 rfl ?_
  cases h
  exact K
theorem fX11_draw_218_ok {w : Wd} {l : Launch} {G : Cx} {d m dd : Dt} {a1 a2 a3 a4 v6 v8 v9 v13 v15 s0 s1 : Int} {d' : Dt} {r : Int} {x : ((Int × Int) ⊕ ((Dt × Int × Int × Int) ⊕ (Dt × Int)))} (F : Fx w G cX11_draw RX11 16 (some .int) { frames := 1, cells := 0, slots := 0, locals := 23 }) (hX : WF dd m) (hp : PB m 1545 11) (h : fX11_draw_218 d a1 a2 a3 a4 v6 v8 v9 v13 v15 s0 s1 = some x) (K : (Sum.elim (fX11_draw_177P w l G (QM w G WF (some (mI r)) d' m 0 0) m d a1 a2 a3 a4 v6 v8 v9 v13) (Sum.elim (fX11_draw_10P w l G (QM w G WF (some (mI r)) d' m 0 0) m a1 a2 a3 a4) (fun q => q = (d', r)))) x) : V w l WF G (QM w G WF (some (mI r)) d' m 0 0) d m 0 0 218 [mA 1545, mI a1, mI a2, mI a3, mU, mU, mL v6, mU, mI v8, mI v9, mU, mU, mU, mI v13, mU, mI v15] [mI s1, mI s0] := by
  unfold fX11_draw_218 at h
  refine v_ior F dX11_draw_218 ?_
  obtain ⟨x32, ex32, h⟩ := lv_some h
  refine v_nI ex32 ?_
  refine v_istore F dX11_draw_219 (Nat.le_of_ble_eq_true rfl) (L' := [mA 1545, mI a1, mI a2, mI a3, mU, mU, mL v6, mU, mI v8, mI v9, mU, mU, mU, mI v13, mI x32, mI v15]) rfl ?_
  obtain ⟨x33, ex33, h⟩ := lv_some h
  refine v_iincN F dX11_draw_221 (Nat.le_of_ble_eq_true rfl) rfl ex33 (L' := [mA 1545, mI a1, mI a2, mI a3, mU, mU, mL v6, mU, mI v8, mI v9, mU, mU, mU, mI v13, mI x32, mI x33]) rfl ?_
  refine v_goto F dX11_draw_224 rfl ?_
  cases h
  exact K
theorem fX11_draw_177f_ok {w : Wd} {l : Launch} {G : Cx} {d m dd : Dt} {a1 a2 a3 a4 v6 v8 v9 v13 : Int} {d' : Dt} {r : Int} {s : Int × Int} {x : ((Int × Int) ⊕ ((Dt × Int × Int × Int) ⊕ (Dt × Int)))} (F : Fx w G cX11_draw RX11 16 (some .int) { frames := 1, cells := 0, slots := 0, locals := 23 }) (hX : WF dd m) (hp : PB m 1545 11) (h : fX11_draw_177f d a1 a2 a3 a4 v6 v8 v9 v13 s = some x) (K : (Sum.elim (fX11_draw_177P w l G (QM w G WF (some (mI r)) d' m 0 0) m d a1 a2 a3 a4 v6 v8 v9 v13) (Sum.elim (fX11_draw_10P w l G (QM w G WF (some (mI r)) d' m 0 0) m a1 a2 a3 a4) (fun q => q = (d', r)))) x) : V w l WF G (QM w G WF (some (mI r)) d' m 0 0) d m 0 0 177 [mA 1545, mI a1, mI a2, mI a3, mU, mU, mL v6, mU, mI v8, mI v9, mU, mU, mU, mI v13, mI (s.1), mI (s.2)] [] := by
  obtain ⟨v14, v15⟩ := s
  unfold fX11_draw_177f at h
  dsimp only at h
  refine v_iload F dX11_draw_177 rfl ?_
  refine v_aload_n F dX11_draw_179 rfl rfl ?_
  refine gf_X11_488 F dX11_draw_180 hp (v := 1589) rfl ?_
  refine v_iload_n F dX11_draw_183 rfl rfl ?_
  obtain ⟨hi20, h⟩ := ck_some h
  refine v_iald F dX11_draw_184 (ar_X11_65 hX hp) hi20 ?_
  refine v_icmp_ge F dX11_draw_185 rfl (fun hq21 => ?_) (fun hq21 => ?_)
  · rw [if_pos hq21] at h
    obtain ⟨z, hu, ez⟩ := up_some h
    clear h
    subst ez
    have h := hu
    clear hu
    refine v_aload_n F dX11_draw_227 rfl rfl ?_
    refine gf_X11_1132 F dX11_draw_228 hp (v := 1656) rfl ?_
    refine v_iload F dX11_draw_231 rfl ?_
    refine v_iload F dX11_draw_233 rfl ?_
    obtain ⟨hi22, h⟩ := ck_some h
    obtain ⟨d23, ed23, h⟩ := sd_some h
    refine v_zast F dX11_draw_235 (ar_X11_156 hX hp) hi22 ?_
    refine v_nD ed23 ?_
    refine v_iload F dX11_draw_236 rfl ?_
    refine v_iload F dX11_draw_238 rfl ?_
    refine v_if_eq F dX11_draw_240 rfl (fun hq24 => ?_) (fun hq24 => ?_)
    · rw [if_pos hq24] at h
      refine v_iconst F dX11_draw_247 ⟨by decide, by decide⟩ ?_
      refine v_fgt (L' := [mA 1545, mI a1, mI a2, mI a3, mU, mU, mL v6, mU, mU, mI v9, mU, mU, mU, mU, mU, mU]) ⟨Or.inl rfl, Or.inl rfl, Or.inl rfl, Or.inl rfl, Or.inl rfl, Or.inl rfl, Or.inl rfl, Or.inl rfl, Or.inr rfl, Or.inl rfl, Or.inl rfl, Or.inl rfl, Or.inl rfl, Or.inr rfl, Or.inr rfl, Or.inr rfl, trivial⟩ ?_
      exact fX11_draw_248_ok F hX hp h K
    · rw [if_neg hq24] at h
      refine v_iconst F dX11_draw_243 ⟨by decide, by decide⟩ ?_
      refine v_goto F dX11_draw_244 rfl ?_
      refine v_fgt (L' := [mA 1545, mI a1, mI a2, mI a3, mU, mU, mL v6, mU, mU, mI v9, mU, mU, mU, mU, mU, mU]) ⟨Or.inl rfl, Or.inl rfl, Or.inl rfl, Or.inl rfl, Or.inl rfl, Or.inl rfl, Or.inl rfl, Or.inl rfl, Or.inr rfl, Or.inl rfl, Or.inl rfl, Or.inl rfl, Or.inl rfl, Or.inr rfl, Or.inr rfl, Or.inr rfl, trivial⟩ ?_
      exact fX11_draw_248_ok F hX hp h K
  · rw [if_neg hq21] at h
    refine v_iload F dX11_draw_188 rfl ?_
    refine v_aload_n F dX11_draw_190 rfl rfl ?_
    refine gf_X11_722 F dX11_draw_191 hp (v := 1610) rfl ?_
    refine v_iload F dX11_draw_194 rfl ?_
    refine v_iload F dX11_draw_196 rfl ?_
    refine v_iadd F dX11_draw_198 ?_
    obtain ⟨x27, ex27, h⟩ := lv_some h
    refine v_nI ex27 ?_
    obtain ⟨hi28, h⟩ := ck_some h
    refine v_bald F dX11_draw_199 (ar_X11_90 hX hp) hi28 ?_
    refine v_aload_n F dX11_draw_200 rfl rfl ?_
    refine gf_X11_725 F dX11_draw_201 hp (v := 1611) rfl ?_
    refine v_iload F dX11_draw_204 rfl ?_
    refine v_iload F dX11_draw_206 rfl ?_
    refine v_iadd F dX11_draw_208 ?_
    obtain ⟨x29, ex29, h⟩ := lv_some h
    refine v_nI ex29 ?_
    obtain ⟨hi30, h⟩ := ck_some h
    refine v_bald F dX11_draw_209 (ar_X11_91 hX hp) hi30 ?_
    refine v_icmp_eq F dX11_draw_210 rfl (fun hq31 => ?_) (fun hq31 => ?_)
    · rw [if_pos hq31] at h
      refine v_iconst F dX11_draw_217 ⟨by decide, by decide⟩ ?_
      refine v_fgt (L' := [mA 1545, mI a1, mI a2, mI a3, mU, mU, mL v6, mU, mI v8, mI v9, mU, mU, mU, mI v13, mU, mI v15]) ⟨Or.inl rfl, Or.inl rfl, Or.inl rfl, Or.inl rfl, Or.inl rfl, Or.inl rfl, Or.inl rfl, Or.inl rfl, Or.inl rfl, Or.inl rfl, Or.inl rfl, Or.inl rfl, Or.inl rfl, Or.inl rfl, Or.inr rfl, Or.inl rfl, trivial⟩ ?_
      exact fX11_draw_218_ok F hX hp h K
    · rw [if_neg hq31] at h
      refine v_iconst F dX11_draw_213 ⟨by decide, by decide⟩ ?_
      refine v_goto F dX11_draw_214 rfl ?_
      refine v_fgt (L' := [mA 1545, mI a1, mI a2, mI a3, mU, mU, mL v6, mU, mI v8, mI v9, mU, mU, mU, mI v13, mU, mI v15]) ⟨Or.inl rfl, Or.inl rfl, Or.inl rfl, Or.inl rfl, Or.inl rfl, Or.inl rfl, Or.inl rfl, Or.inl rfl, Or.inl rfl, Or.inl rfl, Or.inl rfl, Or.inl rfl, Or.inl rfl, Or.inl rfl, Or.inr rfl, Or.inl rfl, trivial⟩ ?_
      exact fX11_draw_218_ok F hX hp h K
theorem fX11_draw_177_ok {w : Wd} {l : Launch} {G : Cx} {d m dd : Dt} {a1 a2 a3 a4 v6 v8 v9 v13 v14 v15 : Int} {d' : Dt} {r : Int} {x : ((Dt × Int × Int × Int) ⊕ (Dt × Int))} (F : Fx w G cX11_draw RX11 16 (some .int) { frames := 1, cells := 0, slots := 0, locals := 23 }) (hX : WF dd m) (hp : PB m 1545 11) (h : fX11_draw_177 d a1 a2 a3 a4 v6 v8 v9 v13 v14 v15 = some x) (K : (Sum.elim (fX11_draw_10P w l G (QM w G WF (some (mI r)) d' m 0 0) m a1 a2 a3 a4) (fun q => q = (d', r))) x) : V w l WF G (QM w G WF (some (mI r)) d' m 0 0) d m 0 0 177 [mA 1545, mI a1, mI a2, mI a3, mU, mU, mL v6, mU, mI v8, mI v9, mU, mU, mU, mI v13, mI v14, mI v15] [] := by
  unfold fX11_draw_177 at h
  exact loop_ok (P := fX11_draw_177P w l G (QM w G WF (some (mI r)) d' m 0 0) m d a1 a2 a3 a4 v6 v8 v9 v13) (fun s x hx h1 h2 => fX11_draw_177f_ok F hX hp hx (by
    cases x with
    | inl s' => exact h1 s' rfl
    | inr z => cases h2 z rfl; exact K)) h
theorem fX11_draw_73f_ok {w : Wd} {l : Launch} {G : Cx} {m dd : Dt} {a1 a2 a3 a4 v6 v8 v9 v10 : Int} {d' : Dt} {r : Int} {s : Dt × Int} {x : ((Dt × Int) ⊕ ((Dt × Int × Int × Int) ⊕ (Dt × Int)))} (F : Fx w G cX11_draw RX11 16 (some .int) { frames := 1, cells := 0, slots := 0, locals := 23 }) (hX : WF dd m) (hp : PB m 1545 11) (h : fX11_draw_73f a1 a2 a3 a4 v6 v8 v9 v10 s = some x) (K : (Sum.elim (fX11_draw_73P w l G (QM w G WF (some (mI r)) d' m 0 0) m a1 a2 a3 a4 v6 v8 v9 v10) (Sum.elim (fX11_draw_10P w l G (QM w G WF (some (mI r)) d' m 0 0) m a1 a2 a3 a4) (fun q => q = (d', r)))) x) : V w l WF G (QM w G WF (some (mI r)) d' m 0 0) s.1 m 0 0 73 [mA 1545, mI a1, mI a2, mI a3, mU, mU, mL v6, mU, mI v8, mI v9, mI v10, mU, mI (s.2), mU, mU, mU] [] := by
  obtain ⟨d, v12⟩ := s
  unfold fX11_draw_73f at h
  dsimp only at h
  refine v_iload F dX11_draw_73 rfl ?_
  refine v_iconst F dX11_draw_75 ⟨by decide, by decide⟩ ?_
  refine v_iadd F dX11_draw_76 ?_
  refine v_iload F dX11_draw_77 rfl ?_
  refine v_icmp_ge F dX11_draw_79 rfl (fun hq11 => ?_) (fun hq11 => ?_)
  · rw [if_pos hq11] at h
    obtain ⟨z, hu, ez⟩ := up_some h
    clear h
    subst ez
    have h := hu
    clear hu
    refine v_aload_n F dX11_draw_120 rfl rfl ?_
    refine gf_X11_740 F dX11_draw_121 hp (v := 1614) rfl ?_
    refine v_sipush F dX11_draw_124 rfl ⟨by decide, by decide⟩ ?_
    refine v_aload_n F dX11_draw_127 rfl rfl ?_
    refine gf_X11_1126 F dX11_draw_128 hp (v := 1654) rfl ?_
    refine v_iload F dX11_draw_131 rfl ?_
    obtain ⟨hi12, h⟩ := ck_some h
    refine v_iald F dX11_draw_133 (ar_X11_154 hX hp) hi12 ?_
    refine v_imul F dX11_draw_134 ?_
    refine v_aload_n F dX11_draw_135 rfl rfl ?_
    refine gf_X11_1129 F dX11_draw_136 hp (v := 1655) rfl ?_
    refine v_iload F dX11_draw_139 rfl ?_
    refine v_iald F dX11_draw_141 (ar_X11_155 hX hp) hi12 ?_
    refine v_iadd F dX11_draw_142 ?_
    obtain ⟨x13, ex13, h⟩ := lv_some h
    refine v_nI ex13 ?_
    obtain ⟨hi14, h⟩ := ck_some h
    refine v_iald F dX11_draw_143 (ar_X11_94 hX hp) hi14 ?_
    obtain ⟨x15, ex15, h⟩ := lv_some h
    refine v_nI ex15 ?_
    refine v_istore F dX11_draw_144 (Nat.le_of_ble_eq_true rfl) (L' := [mA 1545, mI a1, mI a2, mI a3, mU, mU, mL v6, mU, mI v8, mI v9, mI v10, mU, mI x15, mU, mU, mU]) rfl ?_
    refine v_bipush F dX11_draw_146 rfl ⟨by decide, by decide⟩ ?_
    refine v_iload F dX11_draw_148 rfl ?_
    refine v_imul F dX11_draw_150 ?_
    refine v_aload_n F dX11_draw_151 rfl rfl ?_
    refine v_aload_n F dX11_draw_152 rfl rfl ?_
    refine gf_X11_697 F dX11_draw_153 hp (v := 1608) rfl ?_
    refine v_iload F dX11_draw_156 rfl ?_
    obtain ⟨hi16, h⟩ := ck_some h
    refine v_iald F dX11_draw_158 (ar_X11_88 hX hp) hi16 ?_
    refine v_iconst F dX11_draw_159 ⟨by decide, by decide⟩ ?_
    refine v_iload_n F dX11_draw_160 rfl rfl ?_
    refine v_ishl F dX11_draw_161 ?_
    refine v_iconst F dX11_draw_162 ⟨by decide, by decide⟩ ?_
    refine v_isub F dX11_draw_163 ?_
    refine v_iand F dX11_draw_164 ?_
    obtain ⟨x17, hc18, h⟩ := b1_some h
    refine v_callVv (c := 11) F dX11_draw_165 cv_X11_719 rfl (PB.ob hp hX (Nat.le_of_ble_eq_true rfl)) (Nat.le_of_ble_eq_true rfl) rfl (vm_X11_marksOf hp hc18) rfl (rOk.of rfl) ?_
    refine v_iadd F dX11_draw_168 ?_
    obtain ⟨x19, ex19, h⟩ := lv_some h
    refine v_nI ex19 ?_
    refine v_istore F dX11_draw_169 (Nat.le_of_ble_eq_true rfl) (L' := [mA 1545, mI a1, mI a2, mI a3, mU, mU, mL v6, mU, mI v8, mI v9, mI v10, mU, mI x15, mI x19, mU, mU]) rfl ?_
    refine v_iconst F dX11_draw_171 ⟨by decide, by decide⟩ ?_
    refine v_istore F dX11_draw_172 (Nat.le_of_ble_eq_true rfl) (L' := [mA 1545, mI a1, mI a2, mI a3, mU, mU, mL v6, mU, mI v8, mI v9, mI v10, mU, mI x15, mI x19, mI 0, mU]) rfl ?_
    refine v_iconst F dX11_draw_174 ⟨by decide, by decide⟩ ?_
    refine v_istore F dX11_draw_175 (Nat.le_of_ble_eq_true rfl) (L' := [mA 1545, mI a1, mI a2, mI a3, mU, mU, mL v6, mU, mI v8, mI v9, mI v10, mU, mI x15, mI x19, mI 0, mI 0]) rfl ?_
    refine v_fgt (L' := [mA 1545, mI a1, mI a2, mI a3, mU, mU, mL v6, mU, mI v8, mI v9, mU, mU, mU, mI x19, mI 0, mI 0]) ⟨Or.inl rfl, Or.inl rfl, Or.inl rfl, Or.inl rfl, Or.inl rfl, Or.inl rfl, Or.inl rfl, Or.inl rfl, Or.inl rfl, Or.inl rfl, Or.inr rfl, Or.inl rfl, Or.inr rfl, Or.inl rfl, Or.inl rfl, Or.inl rfl, trivial⟩ ?_
    exact fX11_draw_177_ok F hX hp h K
  · rw [if_neg hq11] at h
    refine v_aload_n F dX11_draw_82 rfl rfl ?_
    refine gf_X11_1135 F dX11_draw_83 hp (v := 1657) rfl ?_
    refine v_iload F dX11_draw_86 rfl ?_
    refine v_aload_n F dX11_draw_88 rfl rfl ?_
    refine gf_X11_1135 F dX11_draw_89 hp (v := 1657) rfl ?_
    refine v_iload F dX11_draw_92 rfl ?_
    refine v_iconst F dX11_draw_94 ⟨by decide, by decide⟩ ?_
    refine v_iadd F dX11_draw_95 ?_
    obtain ⟨x34, ex34, h⟩ := lv_some h
    refine v_nI ex34 ?_
    obtain ⟨hi35, h⟩ := ck_some h
    refine v_iald F dX11_draw_96 (ar_X11_162 hX hp) hi35 ?_
    obtain ⟨hi36, h⟩ := ck_some h
    obtain ⟨d37, ed37, h⟩ := sd_some h
    refine v_iast F dX11_draw_97 (ar_X11_162 hX hp) hi36 ?_
    refine v_nD ed37 ?_
    refine v_aload_n F dX11_draw_98 rfl rfl ?_
    refine gf_X11_1138 F dX11_draw_99 hp (v := 1658) rfl ?_
    refine v_iload F dX11_draw_102 rfl ?_
    refine v_aload_n F dX11_draw_104 rfl rfl ?_
    refine gf_X11_1138 F dX11_draw_105 hp (v := 1658) rfl ?_
    refine v_iload F dX11_draw_108 rfl ?_
    refine v_iconst F dX11_draw_110 ⟨by decide, by decide⟩ ?_
    refine v_iadd F dX11_draw_111 ?_
    obtain ⟨x38, ex38, h⟩ := lv_some h
    refine v_nI ex38 ?_
    obtain ⟨hi39, h⟩ := ck_some h
    refine v_iald F dX11_draw_112 (ar_X11_163 hX hp) hi39 ?_
    obtain ⟨d40, ed40, h⟩ := sd_some h
    refine v_iast F dX11_draw_113 (ar_X11_163 hX hp) hi36 ?_
    refine v_nD ed40 ?_
    obtain ⟨x41, ex41, h⟩ := lv_some h
    refine v_iincN F dX11_draw_114 (Nat.le_of_ble_eq_true rfl) rfl ex41 (L' := [mA 1545, mI a1, mI a2, mI a3, mU, mU, mL v6, mU, mI v8, mI v9, mI v10, mU, mI x41, mU, mU, mU]) rfl ?_
    refine v_goto F dX11_draw_117 rfl ?_
    cases h
    exact K
theorem fX11_draw_73_ok {w : Wd} {l : Launch} {G : Cx} {d m dd : Dt} {a1 a2 a3 a4 v6 v8 v9 v10 v12 : Int} {d' : Dt} {r : Int} {x : ((Dt × Int × Int × Int) ⊕ (Dt × Int))} (F : Fx w G cX11_draw RX11 16 (some .int) { frames := 1, cells := 0, slots := 0, locals := 23 }) (hX : WF dd m) (hp : PB m 1545 11) (h : fX11_draw_73 d a1 a2 a3 a4 v6 v8 v9 v10 v12 = some x) (K : (Sum.elim (fX11_draw_10P w l G (QM w G WF (some (mI r)) d' m 0 0) m a1 a2 a3 a4) (fun q => q = (d', r))) x) : V w l WF G (QM w G WF (some (mI r)) d' m 0 0) d m 0 0 73 [mA 1545, mI a1, mI a2, mI a3, mU, mU, mL v6, mU, mI v8, mI v9, mI v10, mU, mI v12, mU, mU, mU] [] := by
  unfold fX11_draw_73 at h
  exact loop_ok (P := fX11_draw_73P w l G (QM w G WF (some (mI r)) d' m 0 0) m a1 a2 a3 a4 v6 v8 v9 v10) (fun s x hx h1 h2 => fX11_draw_73f_ok F hX hp hx (by
    cases x with
    | inl s' => exact h1 s' rfl
    | inr z => cases h2 z rfl; exact K)) h
theorem fX11_draw_10f_ok {w : Wd} {l : Launch} {G : Cx} {m dd : Dt} {a1 a2 a3 a4 : Int} {d' : Dt} {r : Int} {s : Dt × Int × Int × Int} {x : ((Dt × Int × Int × Int) ⊕ (Dt × Int))} (F : Fx w G cX11_draw RX11 16 (some .int) { frames := 1, cells := 0, slots := 0, locals := 23 }) (hX : WF dd m) (hp : PB m 1545 11) (h : fX11_draw_10f a1 a2 a3 a4 s = some x) (K : (Sum.elim (fX11_draw_10P w l G (QM w G WF (some (mI r)) d' m 0 0) m a1 a2 a3 a4) (fun q => q = (d', r))) x) : V w l WF G (QM w G WF (some (mI r)) d' m 0 0) s.1 m 0 0 10 [mA 1545, mI a1, mI a2, mI a3, mU, mU, mL (s.2.1), mU, mI (s.2.2.1), mI (s.2.2.2), mU, mU, mU, mU, mU, mU] [] := by
  obtain ⟨d, v6, v8, v9⟩ := s
  unfold fX11_draw_10f at h
  dsimp only at h
  refine v_iload F dX11_draw_10 rfl ?_
  refine v_iload_n F dX11_draw_12 rfl rfl ?_
  refine v_icmp_ge F dX11_draw_13 rfl (fun hq1 => ?_) (fun hq1 => ?_)
  · rw [if_pos hq1] at h
    obtain ⟨z, hu, ez⟩ := up_some h
    clear h
    subst ez
    have h := hu
    clear hu
    refine v_aload_n F dX11_draw_257 rfl rfl ?_
    refine v_iload_n F dX11_draw_258 rfl rfl ?_
    obtain ⟨d2, ed2, h⟩ := sd_some h
    refine pf_X11_564 F dX11_draw_259 hp ?_
    refine v_nD ed2 ?_
    refine v_iload F dX11_draw_262 rfl ?_
    cases h
    cases (show _ = (d', r) from K)
    exact v_iret F dX11_draw_264
  · rw [if_neg hq1] at h
    refine v_lload F dX11_draw_16 rfl ?_
    refine v_callSv F dX11_draw_18 cs_X11_645 rfl (vm_X11_nextOf) rfl (rOk.of rfl) ?_
    obtain ⟨x3, ex3, h⟩ := lv_some h
    refine v_nL ex3 ?_
    refine v_lstore F dX11_draw_21 (Nat.le_of_ble_eq_true rfl) (L' := [mA 1545, mI a1, mI a2, mI a3, mU, mU, mL x3, mU, mI v8, mI v9, mU, mU, mU, mU, mU, mU]) rfl ?_
    refine v_iload_n F dX11_draw_23 rfl rfl ?_
    refine v_iload F dX11_draw_24 rfl ?_
    refine v_isub F dX11_draw_26 ?_
    obtain ⟨x4, ex4, h⟩ := lv_some h
    refine v_nI ex4 ?_
    refine v_istore F dX11_draw_27 (Nat.le_of_ble_eq_true rfl) (L' := [mA 1545, mI a1, mI a2, mI a3, mU, mU, mL x3, mU, mI v8, mI v9, mI x4, mU, mU, mU, mU, mU]) rfl ?_
    refine v_lload F dX11_draw_29 rfl ?_
    refine v_bipush F dX11_draw_31 rfl ⟨by decide, by decide⟩ ?_
    refine v_lushr F dX11_draw_33 ?_
    refine v_iload F dX11_draw_34 rfl ?_
    refine v_i2l F dX11_draw_36 ?_
    obtain ⟨hz5, h⟩ := ck_some h
    refine v_lrem F dX11_draw_37 hz5 ?_
    refine v_l2i F dX11_draw_38 ?_
    obtain ⟨x6, ex6, h⟩ := lv_some h
    refine v_nI ex6 ?_
    refine v_istore F dX11_draw_39 (Nat.le_of_ble_eq_true rfl) (L' := [mA 1545, mI a1, mI a2, mI a3, mU, mU, mL x3, mU, mI v8, mI v9, mI x4, mI x6, mU, mU, mU, mU]) rfl ?_
    refine v_aload_n F dX11_draw_41 rfl rfl ?_
    refine gf_X11_1126 F dX11_draw_42 hp (v := 1654) rfl ?_
    refine v_iload F dX11_draw_45 rfl ?_
    refine v_aload_n F dX11_draw_47 rfl rfl ?_
    refine gf_X11_1135 F dX11_draw_48 hp (v := 1657) rfl ?_
    refine v_iload F dX11_draw_51 rfl ?_
    obtain ⟨hi7, h⟩ := ck_some h
    refine v_iald F dX11_draw_53 (ar_X11_162 hX hp) hi7 ?_
    obtain ⟨hi8, h⟩ := ck_some h
    obtain ⟨d9, ed9, h⟩ := sd_some h
    refine v_iast F dX11_draw_54 (ar_X11_154 hX hp) hi8 ?_
    refine v_nD ed9 ?_
    refine v_aload_n F dX11_draw_55 rfl rfl ?_
    refine gf_X11_1129 F dX11_draw_56 hp (v := 1655) rfl ?_
    refine v_iload F dX11_draw_59 rfl ?_
    refine v_aload_n F dX11_draw_61 rfl rfl ?_
    refine gf_X11_1138 F dX11_draw_62 hp (v := 1658) rfl ?_
    refine v_iload F dX11_draw_65 rfl ?_
    refine v_iald F dX11_draw_67 (ar_X11_163 hX hp) hi7 ?_
    obtain ⟨d10, ed10, h⟩ := sd_some h
    refine v_iast F dX11_draw_68 (ar_X11_155 hX hp) hi8 ?_
    refine v_nD ed10 ?_
    refine v_iload F dX11_draw_69 rfl ?_
    refine v_istore F dX11_draw_71 (Nat.le_of_ble_eq_true rfl) (L' := [mA 1545, mI a1, mI a2, mI a3, mU, mU, mL x3, mU, mI v8, mI v9, mI x4, mI x6, mI x6, mU, mU, mU]) rfl ?_
    refine v_fgt (L' := [mA 1545, mI a1, mI a2, mI a3, mU, mU, mL x3, mU, mI v8, mI v9, mI x4, mU, mI x6, mU, mU, mU]) ⟨Or.inl rfl, Or.inl rfl, Or.inl rfl, Or.inl rfl, Or.inl rfl, Or.inl rfl, Or.inl rfl, Or.inl rfl, Or.inl rfl, Or.inl rfl, Or.inl rfl, Or.inr rfl, Or.inl rfl, Or.inl rfl, Or.inl rfl, Or.inl rfl, trivial⟩ ?_
    exact fX11_draw_73_ok F hX hp h K
theorem fX11_draw_10_ok {w : Wd} {l : Launch} {G : Cx} {d m dd : Dt} {a1 a2 a3 a4 v6 v8 v9 : Int} {d' : Dt} {r : Int} {x : (Dt × Int)} (F : Fx w G cX11_draw RX11 16 (some .int) { frames := 1, cells := 0, slots := 0, locals := 23 }) (hX : WF dd m) (hp : PB m 1545 11) (h : fX11_draw_10 d a1 a2 a3 a4 v6 v8 v9 = some x) (K : (fun q => q = (d', r)) x) : V w l WF G (QM w G WF (some (mI r)) d' m 0 0) d m 0 0 10 [mA 1545, mI a1, mI a2, mI a3, mU, mU, mL v6, mU, mI v8, mI v9, mU, mU, mU, mU, mU, mU] [] := by
  unfold fX11_draw_10 at h
  exact loop_ok (P := fX11_draw_10P w l G (QM w G WF (some (mI r)) d' m 0 0) m a1 a2 a3 a4) (fun s x hx h1 h2 => fX11_draw_10f_ok F hX hp hx (by
    cases x with
    | inl s' => exact h1 s' rfl
    | inr z => cases h2 z rfl; exact K)) h
theorem vm_X11_draw {w : Wd} {l : Launch} {d m : Dt} {a1 a2 a3 a4 : Int} {d' : Dt} {r : Int} (hp : PB m 1545 11) (h : fX11_draw d a1 a2 a3 a4 = some (d', r)) : VM w l WF yX11_draw cX11_draw 16 (some .int) 1 23 0 0 d m [mA 1545, mI a1, mI a2, mI a3, mL a4] (some (mI r)) d' m := by
  obtain ⟨x, h, K⟩ : ∃ x, fX11_draw d a1 a2 a3 a4 = some x ∧ x = (d', r) := ⟨_, h, rfl⟩
  refine VM.of (L := [mA 1545, mI a1, mI a2, mI a3, mL a4, mU, mU, mU, mU, mU, mU, mU, mU, mU, mU, mU]) (by decide +kernel) rfl (Nat.le_of_ble_eq_true rfl) fun G F _ => v_fact fun _ hX _ _ => ?_
  unfold fX11_draw at h
  refine v_lload F dX11_draw_0 rfl ?_
  refine v_lstore F dX11_draw_2 (Nat.le_of_ble_eq_true rfl) (L' := [mA 1545, mI a1, mI a2, mI a3, mL a4, mU, mL a4, mU, mU, mU, mU, mU, mU, mU, mU, mU]) rfl ?_
  refine v_iconst F dX11_draw_4 ⟨by decide, by decide⟩ ?_
  refine v_istore F dX11_draw_5 (Nat.le_of_ble_eq_true rfl) (L' := [mA 1545, mI a1, mI a2, mI a3, mL a4, mU, mL a4, mU, mI 0, mU, mU, mU, mU, mU, mU, mU]) rfl ?_
  refine v_iconst F dX11_draw_7 ⟨by decide, by decide⟩ ?_
  refine v_istore F dX11_draw_8 (Nat.le_of_ble_eq_true rfl) (L' := [mA 1545, mI a1, mI a2, mI a3, mL a4, mU, mL a4, mU, mI 0, mI 0, mU, mU, mU, mU, mU, mU]) rfl ?_
  refine v_fgt (L' := [mA 1545, mI a1, mI a2, mI a3, mU, mU, mL a4, mU, mI 0, mI 0, mU, mU, mU, mU, mU, mU]) ⟨Or.inl rfl, Or.inl rfl, Or.inl rfl, Or.inl rfl, Or.inr rfl, Or.inl rfl, Or.inl rfl, Or.inl rfl, Or.inl rfl, Or.inl rfl, Or.inl rfl, Or.inl rfl, Or.inl rfl, Or.inl rfl, Or.inl rfl, Or.inl rfl, trivial⟩ ?_
  exact fX11_draw_10_ok F hX hp h K
theorem vm_X11_chosen {w : Wd} {l : Launch} {d m : Dt} {a1 a2 : Int} {r : Int} (hp : PB m 1545 11) (h : fX11_chosen d a1 a2 = some r) : VM w l WF yX11_chosen cX11_chosen 3 (some .long) 0 0 0 0 d m [mA 1545, mI a1, mI a2] (some (mL r)) d m := by
  obtain ⟨x, h, K⟩ : ∃ x, fX11_chosen d a1 a2 = some x ∧ x = r := ⟨_, h, rfl⟩
  refine VM.of (L := [mA 1545, mI a1, mI a2]) (by decide +kernel) rfl (Nat.le_of_ble_eq_true rfl) fun G F _ => v_fact fun _ hX _ _ => ?_
  unfold fX11_chosen at h
  refine v_iload_n F dX11_chosen_0 rfl rfl ?_
  refine v_if_lt F dX11_chosen_1 rfl (fun hq1 => ?_) (fun hq1 => ?_)
  · rw [if_pos hq1] at h
    refine v_lconst0 F dX11_chosen_9 ?_
    refine v_goto F dX11_chosen_10 rfl ?_
    cases h
    cases (show _ = r from K)
    exact v_lret F dX11_chosen_24
  · rw [if_neg hq1] at h
    refine v_iload_n F dX11_chosen_4 rfl rfl ?_
    refine v_iload_n F dX11_chosen_5 rfl rfl ?_
    refine v_icmp_le F dX11_chosen_6 rfl (fun hq2 => ?_) (fun hq2 => ?_)
    · rw [if_pos hq2] at h
      refine v_aload_n F dX11_chosen_13 rfl rfl ?_
      refine gf_X11_1123 F dX11_chosen_14 hp (v := 1653) rfl ?_
      refine v_bipush F dX11_chosen_17 rfl ⟨by decide, by decide⟩ ?_
      refine v_iload_n F dX11_chosen_19 rfl rfl ?_
      refine v_imul F dX11_chosen_20 ?_
      refine v_iload_n F dX11_chosen_21 rfl rfl ?_
      refine v_iadd F dX11_chosen_22 ?_
      obtain ⟨x3, ex3, h⟩ := lv_some h
      refine v_nI ex3 ?_
      obtain ⟨hi4, h⟩ := ck_some h
      refine v_lald F dX11_chosen_23 (ar_X11_151 hX hp) hi4 ?_
      cases h
      cases (show _ = r from K)
      exact v_lret F dX11_chosen_24
    · rw [if_neg hq2] at h
      refine v_lconst0 F dX11_chosen_9 ?_
      refine v_goto F dX11_chosen_10 rfl ?_
      cases h
      cases (show _ = r from K)
      exact v_lret F dX11_chosen_24
def fX11_reckon_5P (w : Wd) (l : Launch) (G : Cx) (Q : State → Prop) (m : Dt) (d : Dt) (a1 a2 : Int) (s : Int × Int) : Prop := V w l WF G Q d m 0 0 5 [mA 1545, mI a1, mI a2, mL (s.1), mU, mI (s.2), mU, mU, mU, mU, mU, mU, mU] []
def fX11_reckon_70P (w : Wd) (l : Launch) (G : Cx) (Q : State → Prop) (m : Dt) (d : Dt) (a1 a2 v3 v5 : Int) (s : Int × Int) : Prop := V w l WF G Q d m 0 0 70 [mA 1545, mU, mU, mL v3, mU, mL v5, mU, mL (s.1), mU, mL (s.2), mU, mU, mU] []
theorem fX11_reckon_70f_ok {w : Wd} {l : Launch} {G : Cx} {d m dd : Dt} {a1 a2 v3 v5 : Int} {d' : Dt} {s : Int × Int} {x : ((Int × Int) ⊕ Dt)} (F : Fx w G cX11_reckon RX11 13 none { frames := 1, cells := 0, slots := 0, locals := 22 }) (hX : WF dd m) (hp : PB m 1545 11) (h : fX11_reckon_70f d a1 a2 v3 v5 s = some x) (K : (Sum.elim (fX11_reckon_70P w l G (QM w G WF none d' m 0 0) m d a1 a2 v3 v5) (fun q => q = d')) x) : V w l WF G (QM w G WF none d' m 0 0) d m 0 0 70 [mA 1545, mU, mU, mL v3, mU, mL v5, mU, mL (s.1), mU, mL (s.2), mU, mU, mU] [] := by
  obtain ⟨v7, v9⟩ := s
  unfold fX11_reckon_70f at h
  dsimp only at h
  refine v_lload F dX11_reckon_70 rfl ?_
  refine v_lconst0 F dX11_reckon_72 ?_
  refine v_lcmp F dX11_reckon_73 ?_
  refine v_if_eq F dX11_reckon_74 rfl (fun hq4 => ?_) (fun hq4 => ?_)
  · rw [if_pos hq4] at h
    obtain ⟨z, hu, ez⟩ := up_some h
    clear h
    subst ez
    have h := hu
    clear hu
    refine v_aload_n F dX11_reckon_95 rfl rfl ?_
    refine v_lload_n F dX11_reckon_96 rfl rfl ?_
    refine v_lload F dX11_reckon_97 rfl ?_
    obtain ⟨hz5, h⟩ := ck_some h
    refine v_ldiv F dX11_reckon_99 hz5 ?_
    obtain ⟨d6, ed6, h⟩ := sd_some h
    refine pf_X11_1254 F dX11_reckon_100 hp ?_
    refine v_nD ed6 ?_
    refine v_aload_n F dX11_reckon_103 rfl rfl ?_
    refine v_lload F dX11_reckon_104 rfl ?_
    refine v_lload F dX11_reckon_106 rfl ?_
    obtain ⟨hz7, h⟩ := ck_some h
    refine v_ldiv F dX11_reckon_108 hz7 ?_
    obtain ⟨d8, ed8, h⟩ := sd_some h
    refine pf_X11_1258 F dX11_reckon_109 hp ?_
    refine v_nD ed8 ?_
    cases h
    cases (show _ = d' from K)
    exact v_vret F dX11_reckon_112
  · rw [if_neg hq4] at h
    refine v_lload F dX11_reckon_77 rfl ?_
    refine v_lload F dX11_reckon_79 rfl ?_
    obtain ⟨hz9, h⟩ := ck_some h
    refine v_lrem F dX11_reckon_81 hz9 ?_
    obtain ⟨x10, ex10, h⟩ := lv_some h
    refine v_nL ex10 ?_
    refine v_lstore F dX11_reckon_82 (Nat.le_of_ble_eq_true rfl) (L' := [mA 1545, mU, mU, mL v3, mU, mL v5, mU, mL v7, mU, mL v9, mU, mL x10, mU]) rfl ?_
    refine v_lload F dX11_reckon_84 rfl ?_
    refine v_lstore F dX11_reckon_86 (Nat.le_of_ble_eq_true rfl) (L' := [mA 1545, mU, mU, mL v3, mU, mL v5, mU, mL v9, mU, mL v9, mU, mL x10, mU]) rfl ?_
    refine v_lload F dX11_reckon_88 rfl ?_
    refine v_lstore F dX11_reckon_90 (Nat.le_of_ble_eq_true rfl) (L' := [mA 1545, mU, mU, mL v3, mU, mL v5, mU, mL v9, mU, mL x10, mU, mL x10, mU]) rfl ?_
    refine v_goto F dX11_reckon_92 rfl ?_
    cases h
    refine v_fgt (L' := [mA 1545, mU, mU, mL v3, mU, mL v5, mU, mL v9, mU, mL x10, mU, mU, mU]) ⟨Or.inl rfl, Or.inl rfl, Or.inl rfl, Or.inl rfl, Or.inl rfl, Or.inl rfl, Or.inl rfl, Or.inl rfl, Or.inl rfl, Or.inl rfl, Or.inl rfl, Or.inr rfl, Or.inl rfl, trivial⟩ ?_
    exact K
theorem fX11_reckon_70_ok {w : Wd} {l : Launch} {G : Cx} {d m dd : Dt} {a1 a2 v3 v5 v7 v9 : Int} {d' : Dt} {x : Dt} (F : Fx w G cX11_reckon RX11 13 none { frames := 1, cells := 0, slots := 0, locals := 22 }) (hX : WF dd m) (hp : PB m 1545 11) (h : fX11_reckon_70 d a1 a2 v3 v5 v7 v9 = some x) (K : (fun q => q = d') x) : V w l WF G (QM w G WF none d' m 0 0) d m 0 0 70 [mA 1545, mU, mU, mL v3, mU, mL v5, mU, mL v7, mU, mL v9, mU, mU, mU] [] := by
  unfold fX11_reckon_70 at h
  exact loop_ok (P := fX11_reckon_70P w l G (QM w G WF none d' m 0 0) m d a1 a2 v3 v5) (fun s x hx h1 h2 => fX11_reckon_70f_ok F hX hp hx (by
    cases x with
    | inl s' => exact h1 s' rfl
    | inr z => cases h2 z rfl; exact K)) h
theorem fX11_reckon_5f_ok {w : Wd} {l : Launch} {G : Cx} {d m dd : Dt} {a1 a2 : Int} {d' : Dt} {s : Int × Int} {x : ((Int × Int) ⊕ Dt)} (F : Fx w G cX11_reckon RX11 13 none { frames := 1, cells := 0, slots := 0, locals := 22 }) (hX : WF dd m) (hp : PB m 1545 11) (h : fX11_reckon_5f d a1 a2 s = some x) (K : (Sum.elim (fX11_reckon_5P w l G (QM w G WF none d' m 0 0) m d a1 a2) (fun q => q = d')) x) : V w l WF G (QM w G WF none d' m 0 0) d m 0 0 5 [mA 1545, mI a1, mI a2, mL (s.1), mU, mI (s.2), mU, mU, mU, mU, mU, mU, mU] [] := by
  obtain ⟨v3, v5⟩ := s
  unfold fX11_reckon_5f at h
  dsimp only at h
  refine v_iload F dX11_reckon_5 rfl ?_
  refine v_iload_n F dX11_reckon_7 rfl rfl ?_
  refine v_iload_n F dX11_reckon_8 rfl rfl ?_
  refine v_callSv F dX11_reckon_9 cs_X11_179 rfl (vm_J9_min) rfl (rOk.of rfl) ?_
  refine v_icmp_gt F dX11_reckon_12 rfl (fun hq1 => ?_) (fun hq1 => ?_)
  · rw [if_pos hq1] at h
    obtain ⟨z, hu, ez⟩ := up_some h
    clear h
    subst ez
    have h := hu
    clear hu
    refine v_aload_n F dX11_reckon_52 rfl rfl ?_
    refine v_aload_n F dX11_reckon_53 rfl rfl ?_
    refine gf_X11_1234 F dX11_reckon_54 hp ?_
    refine v_iload_n F dX11_reckon_57 rfl rfl ?_
    obtain ⟨x2, hc3, h⟩ := b1_some h
    refine v_callVv (c := 11) F dX11_reckon_58 cv_X11_1250 rfl (PB.ob hp hX (Nat.le_of_ble_eq_true rfl)) (Nat.le_of_ble_eq_true rfl) rfl (vm_X11_chosen hp hc3) rfl (rOk.of rfl) ?_
    refine v_lstore F dX11_reckon_61 (Nat.le_of_ble_eq_true rfl) (L' := [mA 1545, mI a1, mI a2, mL v3, mU, mL x2, mU, mU, mU, mU, mU, mU, mU]) rfl ?_
    refine v_lload_n F dX11_reckon_63 rfl rfl ?_
    refine v_lstore F dX11_reckon_64 (Nat.le_of_ble_eq_true rfl) (L' := [mA 1545, mI a1, mI a2, mL v3, mU, mL x2, mU, mL v3, mU, mU, mU, mU, mU]) rfl ?_
    refine v_lload F dX11_reckon_66 rfl ?_
    refine v_lstore F dX11_reckon_68 (Nat.le_of_ble_eq_true rfl) (L' := [mA 1545, mI a1, mI a2, mL v3, mU, mL x2, mU, mL v3, mU, mL x2, mU, mU, mU]) rfl ?_
    refine v_fgt (L' := [mA 1545, mU, mU, mL v3, mU, mL x2, mU, mL v3, mU, mL x2, mU, mU, mU]) ⟨Or.inl rfl, Or.inr rfl, Or.inr rfl, Or.inl rfl, Or.inl rfl, Or.inl rfl, Or.inl rfl, Or.inl rfl, Or.inl rfl, Or.inl rfl, Or.inl rfl, Or.inl rfl, Or.inl rfl, trivial⟩ ?_
    exact fX11_reckon_70_ok F hX hp h K
  · rw [if_neg hq1] at h
    refine v_lload_n F dX11_reckon_15 rfl rfl ?_
    refine v_aload_n F dX11_reckon_16 rfl rfl ?_
    refine v_aload_n F dX11_reckon_17 rfl rfl ?_
    refine gf_X11_1240 F dX11_reckon_18 hp ?_
    refine v_iload F dX11_reckon_21 rfl ?_
    obtain ⟨x11, hc12, h⟩ := b1_some h
    refine v_callVv (c := 11) F dX11_reckon_23 cv_X11_1250 rfl (PB.ob hp hX (Nat.le_of_ble_eq_true rfl)) (Nat.le_of_ble_eq_true rfl) rfl (vm_X11_chosen hp hc12) rfl (rOk.of rfl) ?_
    refine v_aload_n F dX11_reckon_26 rfl rfl ?_
    refine v_aload_n F dX11_reckon_27 rfl rfl ?_
    refine gf_X11_1234 F dX11_reckon_28 hp ?_
    refine v_aload_n F dX11_reckon_31 rfl rfl ?_
    refine gf_X11_1240 F dX11_reckon_32 hp ?_
    refine v_isub F dX11_reckon_35 ?_
    refine v_iload_n F dX11_reckon_36 rfl rfl ?_
    refine v_iload F dX11_reckon_37 rfl ?_
    refine v_isub F dX11_reckon_39 ?_
    obtain ⟨x13, hc14, h⟩ := b1_some h
    refine v_callVv (c := 11) F dX11_reckon_40 cv_X11_1250 rfl (PB.ob hp hX (Nat.le_of_ble_eq_true rfl)) (Nat.le_of_ble_eq_true rfl) rfl (vm_X11_chosen hp hc14) rfl (rOk.of rfl) ?_
    refine v_lmul F dX11_reckon_43 ?_
    refine v_ladd F dX11_reckon_44 ?_
    obtain ⟨x15, ex15, h⟩ := lv_some h
    refine v_nL ex15 ?_
    refine v_lstore_n F dX11_reckon_45 rfl (Nat.le_of_ble_eq_true rfl) (L' := [mA 1545, mI a1, mI a2, mL x15, mU, mI v5, mU, mU, mU, mU, mU, mU, mU]) rfl ?_
    obtain ⟨x16, ex16, h⟩ := lv_some h
    refine v_iincN F dX11_reckon_46 (Nat.le_of_ble_eq_true rfl) rfl ex16 (L' := [mA 1545, mI a1, mI a2, mL x15, mU, mI x16, mU, mU, mU, mU, mU, mU, mU]) rfl ?_
    refine v_goto F dX11_reckon_49 rfl ?_
    cases h
    exact K
theorem fX11_reckon_5_ok {w : Wd} {l : Launch} {G : Cx} {d m dd : Dt} {a1 a2 v3 v5 : Int} {d' : Dt} {x : Dt} (F : Fx w G cX11_reckon RX11 13 none { frames := 1, cells := 0, slots := 0, locals := 22 }) (hX : WF dd m) (hp : PB m 1545 11) (h : fX11_reckon_5 d a1 a2 v3 v5 = some x) (K : (fun q => q = d') x) : V w l WF G (QM w G WF none d' m 0 0) d m 0 0 5 [mA 1545, mI a1, mI a2, mL v3, mU, mI v5, mU, mU, mU, mU, mU, mU, mU] [] := by
  unfold fX11_reckon_5 at h
  exact loop_ok (P := fX11_reckon_5P w l G (QM w G WF none d' m 0 0) m d a1 a2) (fun s x hx h1 h2 => fX11_reckon_5f_ok F hX hp hx (by
    cases x with
    | inl s' => exact h1 s' rfl
    | inr z => cases h2 z rfl; exact K)) h
theorem vm_X11_reckon {w : Wd} {l : Launch} {d m : Dt} {a1 a2 : Int} {d' : Dt} (hp : PB m 1545 11) (h : fX11_reckon d a1 a2 = some d') : VM w l WF yX11_reckon cX11_reckon 13 none 1 22 0 0 d m [mA 1545, mI a1, mI a2] none d' m := by
  obtain ⟨x, h, K⟩ : ∃ x, fX11_reckon d a1 a2 = some x ∧ x = d' := ⟨_, h, rfl⟩
  refine VM.of (L := [mA 1545, mI a1, mI a2, mU, mU, mU, mU, mU, mU, mU, mU, mU, mU]) (by decide +kernel) rfl (Nat.le_of_ble_eq_true rfl) fun G F _ => v_fact fun _ hX _ _ => ?_
  unfold fX11_reckon at h
  refine v_lconst0 F dX11_reckon_0 ?_
  refine v_lstore_n F dX11_reckon_1 rfl (Nat.le_of_ble_eq_true rfl) (L' := [mA 1545, mI a1, mI a2, mL 0, mU, mU, mU, mU, mU, mU, mU, mU, mU]) rfl ?_
  refine v_iconst F dX11_reckon_2 ⟨by decide, by decide⟩ ?_
  refine v_istore F dX11_reckon_3 (Nat.le_of_ble_eq_true rfl) (L' := [mA 1545, mI a1, mI a2, mL 0, mU, mI 0, mU, mU, mU, mU, mU, mU, mU]) rfl ?_
  exact fX11_reckon_5_ok F hX hp h K
def fX11_sample_64P (w : Wd) (l : Launch) (G : Cx) (Q : State → Prop) (m : Dt) (a1 a2 a3 v5 : Int) (s : Dt × Int × Int) : Prop := V w l WF G Q s.1 m 0 0 64 [mA 1545, mI a1, mI a2, mL a3, mU, mI v5, mI (s.2.1), mI (s.2.2), mU] []
def fX11_sample_74P (w : Wd) (l : Launch) (G : Cx) (Q : State → Prop) (m : Dt) (a1 a2 a3 v5 v7 : Int) (s : Dt × Int × Int) : Prop := V w l WF G Q s.1 m 0 0 74 [mA 1545, mI a1, mI a2, mL a3, mU, mI v5, mI (s.2.1), mI v7, mI (s.2.2)] []
theorem fX11_sample_74f_ok {w : Wd} {l : Launch} {G : Cx} {m dd : Dt} {a1 a2 a3 v5 v7 : Int} {d' : Dt} {r : Int} {s : Dt × Int × Int} {x : ((Dt × Int × Int) ⊕ ((Dt × Int × Int) ⊕ (Dt × Int)))} (F : Fx w G cX11_sample RX11 9 (some .int) { frames := 5, cells := 0, slots := 0, locals := 117 }) (hX : WF dd m) (hp : PB m 1545 11) (h : fX11_sample_74f a1 a2 a3 v5 v7 s = some x) (K : (Sum.elim (fX11_sample_74P w l G (QM w G WF (some (mI r)) d' m 0 0) m a1 a2 a3 v5 v7) (Sum.elim (fX11_sample_64P w l G (QM w G WF (some (mI r)) d' m 0 0) m a1 a2 a3 v5) (fun q => q = (d', r)))) x) : V w l WF G (QM w G WF (some (mI r)) d' m 0 0) s.1 m 0 0 74 [mA 1545, mI a1, mI a2, mL a3, mU, mI v5, mI (s.2.1), mI v7, mI (s.2.2)] [] := by
  obtain ⟨d, v6, v8⟩ := s
  unfold fX11_sample_74f at h
  dsimp only at h
  refine v_iload F dX11_sample_74 rfl ?_
  refine v_aload_n F dX11_sample_76 rfl rfl ?_
  refine gf_X11_549 F dX11_sample_77 hp (v := 1613) rfl ?_
  refine v_iload F dX11_sample_80 rfl ?_
  obtain ⟨hi41, h⟩ := ck_some h
  refine v_iald F dX11_sample_82 (ar_X11_93 hX hp) hi41 ?_
  refine v_icmp_ge F dX11_sample_83 rfl (fun hq42 => ?_) (fun hq42 => ?_)
  · rw [if_pos hq42] at h
    obtain ⟨z, hu, ez⟩ := up_some h
    clear h
    subst ez
    have h := hu
    clear hu
    obtain ⟨x43, ex43, h⟩ := lv_some h
    refine v_iincN F dX11_sample_152 (Nat.le_of_ble_eq_true rfl) rfl ex43 (L' := [mA 1545, mI a1, mI a2, mL a3, mU, mI v5, mI v6, mI x43, mI v8]) rfl ?_
    refine v_goto F dX11_sample_155 rfl ?_
    cases h
    refine v_fgt (L' := [mA 1545, mI a1, mI a2, mL a3, mU, mI v5, mI v6, mI x43, mU]) ⟨Or.inl rfl, Or.inl rfl, Or.inl rfl, Or.inl rfl, Or.inl rfl, Or.inl rfl, Or.inl rfl, Or.inl rfl, Or.inr rfl, trivial⟩ ?_
    exact K
  · rw [if_neg hq42] at h
    refine v_aload_n F dX11_sample_86 rfl rfl ?_
    refine gf_X11_555 F dX11_sample_87 hp (v := 1616) rfl ?_
    refine v_iload F dX11_sample_90 rfl ?_
    refine v_zald F dX11_sample_92 (ar_X11_96 hX hp) hi41 ?_
    refine v_if_ne F dX11_sample_93 rfl (fun hq44 => ?_) (fun hq44 => ?_)
    · rw [if_neg hq44] at h
      obtain ⟨z, hu, ez⟩ := up_some h
      clear h
      subst ez
      have h := hu
      clear hu
      obtain ⟨x45, ex45, h⟩ := lv_some h
      refine v_iincN F dX11_sample_152 (Nat.le_of_ble_eq_true rfl) rfl ex45 (L' := [mA 1545, mI a1, mI a2, mL a3, mU, mI v5, mI v6, mI x45, mI v8]) rfl ?_
      refine v_goto F dX11_sample_155 rfl ?_
      cases h
      refine v_fgt (L' := [mA 1545, mI a1, mI a2, mL a3, mU, mI v5, mI v6, mI x45, mU]) ⟨Or.inl rfl, Or.inl rfl, Or.inl rfl, Or.inl rfl, Or.inl rfl, Or.inl rfl, Or.inl rfl, Or.inl rfl, Or.inr rfl, trivial⟩ ?_
      exact K
    · rw [if_pos hq44] at h
      refine v_aload_n F dX11_sample_96 rfl rfl ?_
      refine gf_X11_697 F dX11_sample_97 hp (v := 1608) rfl ?_
      refine v_aload_n F dX11_sample_100 rfl rfl ?_
      refine gf_X11_740 F dX11_sample_101 hp (v := 1614) rfl ?_
      refine v_sipush F dX11_sample_104 rfl ⟨by decide, by decide⟩ ?_
      refine v_iload F dX11_sample_107 rfl ?_
      refine v_imul F dX11_sample_109 ?_
      refine v_iload F dX11_sample_110 rfl ?_
      refine v_iadd F dX11_sample_112 ?_
      obtain ⟨x46, ex46, h⟩ := lv_some h
      refine v_nI ex46 ?_
      obtain ⟨hi47, h⟩ := ck_some h
      refine v_iald F dX11_sample_113 (ar_X11_94 hX hp) hi47 ?_
      obtain ⟨x48, ex48, h⟩ := lv_some h
      refine v_nI ex48 ?_
      obtain ⟨hi49, h⟩ := ck_some h
      refine v_iald F dX11_sample_114 (ar_X11_88 hX hp) hi49 ?_
      refine v_iload_n F dX11_sample_115 rfl rfl ?_
      refine v_ishr F dX11_sample_116 ?_
      refine v_iconst F dX11_sample_117 ⟨by decide, by decide⟩ ?_
      refine v_iand F dX11_sample_118 ?_
      refine v_if_ne F dX11_sample_119 rfl (fun hq50 => ?_) (fun hq50 => ?_)
      · rw [if_neg hq50] at h
        refine v_aload_n F dX11_sample_125 rfl rfl ?_
        refine gf_X11_1135 F dX11_sample_126 hp (v := 1657) rfl ?_
        refine v_iload F dX11_sample_129 rfl ?_
        refine v_iload F dX11_sample_131 rfl ?_
        obtain ⟨hi51, h⟩ := ck_some h
        obtain ⟨d52, ed52, h⟩ := sd_some h
        refine v_iast F dX11_sample_133 (ar_X11_162 hX hp) hi51 ?_
        refine v_nD ed52 ?_
        refine v_aload_n F dX11_sample_134 rfl rfl ?_
        refine gf_X11_1138 F dX11_sample_135 hp (v := 1658) rfl ?_
        refine v_iload F dX11_sample_138 rfl ?_
        refine v_iload F dX11_sample_140 rfl ?_
        obtain ⟨d53, ed53, h⟩ := sd_some h
        refine v_iast F dX11_sample_142 (ar_X11_163 hX hp) hi51 ?_
        refine v_nD ed53 ?_
        obtain ⟨x54, ex54, h⟩ := lv_some h
        refine v_iincN F dX11_sample_143 (Nat.le_of_ble_eq_true rfl) rfl ex54 (L' := [mA 1545, mI a1, mI a2, mL a3, mU, mI v5, mI x54, mI v7, mI v8]) rfl ?_
        obtain ⟨x55, ex55, h⟩ := lv_some h
        refine v_iincN F dX11_sample_146 (Nat.le_of_ble_eq_true rfl) rfl ex55 (L' := [mA 1545, mI a1, mI a2, mL a3, mU, mI v5, mI x54, mI v7, mI x55]) rfl ?_
        refine v_goto F dX11_sample_149 rfl ?_
        cases h
        exact K
      · rw [if_pos hq50] at h
        refine v_goto F dX11_sample_122 rfl ?_
        obtain ⟨x56, ex56, h⟩ := lv_some h
        refine v_iincN F dX11_sample_146 (Nat.le_of_ble_eq_true rfl) rfl ex56 (L' := [mA 1545, mI a1, mI a2, mL a3, mU, mI v5, mI v6, mI v7, mI x56]) rfl ?_
        refine v_goto F dX11_sample_149 rfl ?_
        cases h
        exact K
theorem fX11_sample_74_ok {w : Wd} {l : Launch} {G : Cx} {d m dd : Dt} {a1 a2 a3 v5 v6 v7 v8 : Int} {d' : Dt} {r : Int} {x : ((Dt × Int × Int) ⊕ (Dt × Int))} (F : Fx w G cX11_sample RX11 9 (some .int) { frames := 5, cells := 0, slots := 0, locals := 117 }) (hX : WF dd m) (hp : PB m 1545 11) (h : fX11_sample_74 d a1 a2 a3 v5 v6 v7 v8 = some x) (K : (Sum.elim (fX11_sample_64P w l G (QM w G WF (some (mI r)) d' m 0 0) m a1 a2 a3 v5) (fun q => q = (d', r))) x) : V w l WF G (QM w G WF (some (mI r)) d' m 0 0) d m 0 0 74 [mA 1545, mI a1, mI a2, mL a3, mU, mI v5, mI v6, mI v7, mI v8] [] := by
  unfold fX11_sample_74 at h
  exact loop_ok (P := fX11_sample_74P w l G (QM w G WF (some (mI r)) d' m 0 0) m a1 a2 a3 v5 v7) (fun s x hx h1 h2 => fX11_sample_74f_ok F hX hp hx (by
    cases x with
    | inl s' => exact h1 s' rfl
    | inr z => cases h2 z rfl; exact K)) h
theorem fX11_sample_64f_ok {w : Wd} {l : Launch} {G : Cx} {m dd : Dt} {a1 a2 a3 v5 : Int} {d' : Dt} {r : Int} {s : Dt × Int × Int} {x : ((Dt × Int × Int) ⊕ (Dt × Int))} (F : Fx w G cX11_sample RX11 9 (some .int) { frames := 5, cells := 0, slots := 0, locals := 117 }) (hX : WF dd m) (hp : PB m 1545 11) (h : fX11_sample_64f a1 a2 a3 v5 s = some x) (K : (Sum.elim (fX11_sample_64P w l G (QM w G WF (some (mI r)) d' m 0 0) m a1 a2 a3 v5) (fun q => q = (d', r))) x) : V w l WF G (QM w G WF (some (mI r)) d' m 0 0) s.1 m 0 0 64 [mA 1545, mI a1, mI a2, mL a3, mU, mI v5, mI (s.2.1), mI (s.2.2), mU] [] := by
  obtain ⟨d, v6, v7⟩ := s
  unfold fX11_sample_64f at h
  dsimp only at h
  refine v_iload F dX11_sample_64 rfl ?_
  refine v_bipush F dX11_sample_66 rfl ⟨by decide, by decide⟩ ?_
  refine v_icmp_ge F dX11_sample_68 rfl (fun hq14 => ?_) (fun hq14 => ?_)
  · rw [if_pos hq14] at h
    obtain ⟨z, hu, ez⟩ := up_some h
    clear h
    subst ez
    have h := hu
    clear hu
    refine v_iload_n F dX11_sample_158 rfl rfl ?_
    refine v_i2l F dX11_sample_159 ?_
    refine v_lconst1 F dX11_sample_160 ?_
    refine v_iload F dX11_sample_161 rfl ?_
    refine v_i2l F dX11_sample_163 ?_
    refine v_callSv F dX11_sample_164 cs_X11_13 rfl (vm_X11_in) rfl (rOk.of rfl) ?_
    refine v_if_ne F dX11_sample_167 rfl (fun hq15 => ?_) (fun hq15 => ?_)
    · rw [if_neg hq15] at h
      refine v_aload_n F dX11_sample_173 rfl rfl ?_
      refine v_iconst F dX11_sample_174 ⟨by decide, by decide⟩ ?_
      obtain ⟨d16, ed16, h⟩ := sd_some h
      refine pf_X11_561 F dX11_sample_175 hp (Or.inr rfl) ?_
      refine v_nD ed16 ?_
      refine v_aload_n F dX11_sample_178 rfl rfl ?_
      refine v_iload F dX11_sample_179 rfl ?_
      obtain ⟨d17, ed17, h⟩ := sd_some h
      refine pf_X11_1234 F dX11_sample_181 hp ?_
      refine v_nD ed17 ?_
      refine v_aload_n F dX11_sample_184 rfl rfl ?_
      refine v_iload_n F dX11_sample_185 rfl rfl ?_
      refine v_iconst F dX11_sample_186 ⟨by decide, by decide⟩ ?_
      obtain ⟨d18, hc19, h⟩ := bd_some h
      refine v_callV0 (c := 11) F dX11_sample_187 cv_X11_844 rfl (PB.ob hp hX (Nat.le_of_ble_eq_true rfl)) (Nat.le_of_ble_eq_true rfl) rfl (vm_X11_gather hp hc19) rfl (rOk.of rfl) ?_
      refine v_aload_n F dX11_sample_190 rfl rfl ?_
      refine v_iload F dX11_sample_191 rfl ?_
      obtain ⟨d20, hc21, h⟩ := bd_some h
      refine v_callV0 (c := 11) F dX11_sample_193 cv_X11_865 rfl (PB.ob hp hX (Nat.le_of_ble_eq_true rfl)) (Nat.le_of_ble_eq_true rfl) rfl (vm_X11_votesByMarks hp hc21) rfl (rOk.of rfl) ?_
      refine v_aload_n F dX11_sample_196 rfl rfl ?_
      obtain ⟨d22, hc23, h⟩ := bd_some h
      refine v_callV0 (c := 11) F dX11_sample_197 cv_X11_871 rfl (PB.ob hp hX (Nat.le_of_ble_eq_true rfl)) (Nat.le_of_ble_eq_true rfl) rfl (vm_X11_orderByVotes hp hc23) rfl (rOk.of rfl) ?_
      refine v_aload_n F dX11_sample_200 rfl rfl ?_
      refine v_aload_n F dX11_sample_201 rfl rfl ?_
      refine gf_X11_801 F dX11_sample_202 hp (v := 1621) rfl ?_
      refine v_aload_n F dX11_sample_205 rfl rfl ?_
      refine gf_X11_805 F dX11_sample_206 hp (v := 1622) rfl ?_
      refine v_aload_n F dX11_sample_209 rfl rfl ?_
      refine gf_X11_758 F dX11_sample_210 hp ?_
      refine v_iconst F dX11_sample_213 ⟨by decide, by decide⟩ ?_
      refine v_isub F dX11_sample_214 ?_
      obtain ⟨x24, ex24, h⟩ := lv_some h
      refine v_nI ex24 ?_
      obtain ⟨hi25, h⟩ := ck_some h
      refine v_iald F dX11_sample_215 (ar_X11_109 hX hp) hi25 ?_
      obtain ⟨x26, ex26, h⟩ := lv_some h
      refine v_nI ex26 ?_
      obtain ⟨hi27, h⟩ := ck_some h
      refine v_lald F dX11_sample_216 (ar_X11_108 hX hp) hi27 ?_
      refine v_aload_n F dX11_sample_217 rfl rfl ?_
      refine gf_X11_801 F dX11_sample_218 hp (v := 1621) rfl ?_
      refine v_aload_n F dX11_sample_221 rfl rfl ?_
      refine gf_X11_805 F dX11_sample_222 hp (v := 1622) rfl ?_
      refine v_aload_n F dX11_sample_225 rfl rfl ?_
      refine gf_X11_758 F dX11_sample_226 hp ?_
      obtain ⟨x28, ex28, h⟩ := lv_some h
      refine v_nI ex28 ?_
      obtain ⟨hi29, h⟩ := ck_some h
      refine v_iald F dX11_sample_229 (ar_X11_109 hX hp) hi29 ?_
      obtain ⟨x30, ex30, h⟩ := lv_some h
      refine v_nI ex30 ?_
      obtain ⟨hi31, h⟩ := ck_some h
      refine v_lald F dX11_sample_230 (ar_X11_108 hX hp) hi31 ?_
      refine v_lsub F dX11_sample_231 ?_
      refine v_l2i F dX11_sample_232 ?_
      obtain ⟨d32, ed32, h⟩ := sd_some h
      refine pf_X11_1237 F dX11_sample_233 hp ?_
      refine v_nD ed32 ?_
      refine v_aload_n F dX11_sample_236 rfl rfl ?_
      refine v_aload_n F dX11_sample_237 rfl rfl ?_
      refine gf_X11_1237 F dX11_sample_238 hp ?_
      refine v_iconst F dX11_sample_241 ⟨by decide, by decide⟩ ?_
      refine v_iadd F dX11_sample_242 ?_
      refine v_iconst F dX11_sample_243 ⟨by decide, by decide⟩ ?_
      refine v_idiv F dX11_sample_244 (by decide) ?_
      obtain ⟨d33, ed33, h⟩ := sd_some h
      refine pf_X11_1240 F dX11_sample_245 hp ?_
      refine v_nD ed33 ?_
      refine v_aload_n F dX11_sample_248 rfl rfl ?_
      refine v_iload_n F dX11_sample_249 rfl rfl ?_
      refine v_iload_n F dX11_sample_250 rfl rfl ?_
      refine v_iload F dX11_sample_251 rfl ?_
      refine v_lload_n F dX11_sample_253 rfl rfl ?_
      obtain ⟨d34, x36, hc35, h⟩ := b2_some h
      refine v_callVv (c := 11) F dX11_sample_254 cv_X11_1243 rfl (PB.ob hp hX (Nat.le_of_ble_eq_true rfl)) (Nat.le_of_ble_eq_true rfl) rfl (vm_X11_draw hp hc35) rfl (rOk.of rfl) ?_
      refine v_istore F dX11_sample_257 (Nat.le_of_ble_eq_true rfl) (L' := [mA 1545, mI a1, mI a2, mL a3, mU, mI v5, mI v6, mI x36, mU]) rfl ?_
      refine v_aload_n F dX11_sample_259 rfl rfl ?_
      refine v_iload_n F dX11_sample_260 rfl rfl ?_
      refine v_iload F dX11_sample_261 rfl ?_
      obtain ⟨d37, hc38, h⟩ := bd_some h
      refine v_callV0 (c := 11) F dX11_sample_263 cv_X11_1247 rfl (PB.ob hp hX (Nat.le_of_ble_eq_true rfl)) (Nat.le_of_ble_eq_true rfl) rfl (vm_X11_reckon hp hc38) rfl (rOk.of rfl) ?_
      refine v_aload_n F dX11_sample_266 rfl rfl ?_
      refine v_bipush F dX11_sample_267 rfl ⟨by decide, by decide⟩ ?_
      refine v_iload_n F dX11_sample_269 rfl rfl ?_
      refine v_iload_n F dX11_sample_270 rfl rfl ?_
      refine v_lload_n F dX11_sample_271 rfl rfl ?_
      refine v_bipush F dX11_sample_272 rfl ⟨by decide, by decide⟩ ?_
      refine v_lshr F dX11_sample_274 ?_
      refine v_l2i F dX11_sample_275 ?_
      refine v_lload_n F dX11_sample_276 rfl rfl ?_
      refine v_l2i F dX11_sample_277 ?_
      obtain ⟨d39, hc40, h⟩ := bd_some h
      refine v_callV0 (c := 11) F dX11_sample_278 cv_X11_22 rfl (PB.ob hp hX (Nat.le_of_ble_eq_true rfl)) (Nat.le_of_ble_eq_true rfl) rfl (vm_X11_write hp hc40) rfl (rOk.of rfl) ?_
      refine v_iload F dX11_sample_281 rfl ?_
      cases h
      cases (show _ = (d', r) from K)
      exact v_iret F dX11_sample_283
    · rw [if_pos hq15] at h
      refine v_bipush F dX11_sample_170 rfl ⟨by decide, by decide⟩ ?_
      cases h
      cases (show _ = (d', r) from K)
      exact v_iret F dX11_sample_172
  · rw [if_neg hq14] at h
    refine v_iconst F dX11_sample_71 ⟨by decide, by decide⟩ ?_
    refine v_istore F dX11_sample_72 (Nat.le_of_ble_eq_true rfl) (L' := [mA 1545, mI a1, mI a2, mL a3, mU, mI v5, mI v6, mI v7, mI 0]) rfl ?_
    exact fX11_sample_74_ok F hX hp h K
theorem fX11_sample_64_ok {w : Wd} {l : Launch} {G : Cx} {d m dd : Dt} {a1 a2 a3 v5 v6 v7 : Int} {d' : Dt} {r : Int} {x : (Dt × Int)} (F : Fx w G cX11_sample RX11 9 (some .int) { frames := 5, cells := 0, slots := 0, locals := 117 }) (hX : WF dd m) (hp : PB m 1545 11) (h : fX11_sample_64 d a1 a2 a3 v5 v6 v7 = some x) (K : (fun q => q = (d', r)) x) : V w l WF G (QM w G WF (some (mI r)) d' m 0 0) d m 0 0 64 [mA 1545, mI a1, mI a2, mL a3, mU, mI v5, mI v6, mI v7, mU] [] := by
  unfold fX11_sample_64 at h
  exact loop_ok (P := fX11_sample_64P w l G (QM w G WF (some (mI r)) d' m 0 0) m a1 a2 a3 v5) (fun s x hx h1 h2 => fX11_sample_64f_ok F hX hp hx (by
    cases x with
    | inl s' => exact h1 s' rfl
    | inr z => cases h2 z rfl; exact K)) h
theorem vm_X11_sample {w : Wd} {l : Launch} {d m : Dt} {a1 a2 a3 : Int} {d' : Dt} {r : Int} (hp : PB m 1545 11) (h : fX11_sample d a1 a2 a3 = some (d', r)) : VM w l WF yX11_sample cX11_sample 9 (some .int) 5 117 0 0 d m [mA 1545, mI a1, mI a2, mL a3] (some (mI r)) d' m := by
  obtain ⟨x, h, K⟩ : ∃ x, fX11_sample d a1 a2 a3 = some x ∧ x = (d', r) := ⟨_, h, rfl⟩
  refine VM.of (L := [mA 1545, mI a1, mI a2, mL a3, mU, mU, mU, mU, mU]) (by decide +kernel) rfl (Nat.le_of_ble_eq_true rfl) fun G F _ => v_fact fun _ hX _ _ => ?_
  unfold fX11_sample at h
  refine v_aload_n F dX11_sample_0 rfl rfl ?_
  refine v_iload_n F dX11_sample_1 rfl rfl ?_
  refine v_callVv (c := 11) F dX11_sample_2 cv_X11_480 rfl (PB.ob hp hX (Nat.le_of_ble_eq_true rfl)) (Nat.le_of_ble_eq_true rfl) rfl (vm_X11_isContest hp) rfl (rOk.of rfl) ?_
  refine v_if_ne F dX11_sample_5 rfl (fun hq1 => ?_) (fun hq1 => ?_)
  · rw [if_neg hq1] at h
    refine v_aload_n F dX11_sample_10 rfl rfl ?_
    obtain ⟨x2, hc3, h⟩ := b1_some h
    refine v_callVv (c := 11) F dX11_sample_11 cv_X11_835 rfl (PB.ob hp hX (Nat.le_of_ble_eq_true rfl)) (Nat.le_of_ble_eq_true rfl) rfl (vm_X11_areClosed hp hc3) rfl (rOk.of rfl) ?_
    refine v_if_ne F dX11_sample_14 rfl (fun hq4 => ?_) (fun hq4 => ?_)
    · rw [if_neg hq4] at h
      refine v_aload_n F dX11_sample_20 rfl rfl ?_
      refine v_iload_n F dX11_sample_21 rfl rfl ?_
      refine v_iconst F dX11_sample_22 ⟨by decide, by decide⟩ ?_
      obtain ⟨x5, hc6, h⟩ := b1_some h
      refine v_callVv (c := 11) F dX11_sample_23 cv_X11_485 rfl (PB.ob hp hX (Nat.le_of_ble_eq_true rfl)) (Nat.le_of_ble_eq_true rfl) rfl (vm_X11_contestIs hp hc6) rfl (rOk.of rfl) ?_
      refine v_istore F dX11_sample_26 (Nat.le_of_ble_eq_true rfl) (L' := [mA 1545, mI a1, mI a2, mL a3, mU, mI x5, mU, mU, mU]) rfl ?_
      refine v_iload F dX11_sample_28 rfl ?_
      refine v_iconst F dX11_sample_30 ⟨by decide, by decide⟩ ?_
      refine v_icmp_gt F dX11_sample_31 rfl (fun hq7 => ?_) (fun hq7 => ?_)
      · rw [if_pos hq7] at h
        refine v_bipush F dX11_sample_55 rfl ⟨by decide, by decide⟩ ?_
        cases h
        cases (show _ = (d', r) from K)
        exact v_iret F dX11_sample_57
      · rw [if_neg hq7] at h
        refine v_aload_n F dX11_sample_34 rfl rfl ?_
        refine gf_X11_488 F dX11_sample_35 hp (v := 1589) rfl ?_
        refine v_iload_n F dX11_sample_38 rfl rfl ?_
        obtain ⟨hi8, h⟩ := ck_some h
        refine v_iald F dX11_sample_39 (ar_X11_65 hX hp) hi8 ?_
        refine v_aload_n F dX11_sample_40 rfl rfl ?_
        refine v_iload_n F dX11_sample_41 rfl rfl ?_
        obtain ⟨x9, hc10, h⟩ := b1_some h
        refine v_callVv (c := 11) F dX11_sample_42 cv_X11_491 rfl (PB.ob hp hX (Nat.le_of_ble_eq_true rfl)) (Nat.le_of_ble_eq_true rfl) rfl (vm_X11_struckOf hp hc10) rfl (rOk.of rfl) ?_
        refine v_isub F dX11_sample_45 ?_
        refine v_aload_n F dX11_sample_46 rfl rfl ?_
        refine v_iload_n F dX11_sample_47 rfl rfl ?_
        refine v_iconst F dX11_sample_48 ⟨by decide, by decide⟩ ?_
        obtain ⟨x11, hc12, h⟩ := b1_some h
        refine v_callVv (c := 11) F dX11_sample_49 cv_X11_485 rfl (PB.ob hp hX (Nat.le_of_ble_eq_true rfl)) (Nat.le_of_ble_eq_true rfl) rfl (vm_X11_contestIs hp hc12) rfl (rOk.of rfl) ?_
        refine v_icmp_gt F dX11_sample_52 rfl (fun hq13 => ?_) (fun hq13 => ?_)
        · rw [if_pos hq13] at h
          refine v_iconst F dX11_sample_58 ⟨by decide, by decide⟩ ?_
          refine v_istore F dX11_sample_59 (Nat.le_of_ble_eq_true rfl) (L' := [mA 1545, mI a1, mI a2, mL a3, mU, mI x5, mI 0, mU, mU]) rfl ?_
          refine v_iconst F dX11_sample_61 ⟨by decide, by decide⟩ ?_
          refine v_istore F dX11_sample_62 (Nat.le_of_ble_eq_true rfl) (L' := [mA 1545, mI a1, mI a2, mL a3, mU, mI x5, mI 0, mI 0, mU]) rfl ?_
          exact fX11_sample_64_ok F hX hp h K
        · rw [if_neg hq13] at h
          refine v_bipush F dX11_sample_55 rfl ⟨by decide, by decide⟩ ?_
          cases h
          cases (show _ = (d', r) from K)
          exact v_iret F dX11_sample_57
    · rw [if_pos hq4] at h
      refine v_bipush F dX11_sample_17 rfl ⟨by decide, by decide⟩ ?_
      cases h
      cases (show _ = (d', r) from K)
      exact v_iret F dX11_sample_19
  · rw [if_pos hq1] at h
    refine v_iconst F dX11_sample_8 ⟨by decide, by decide⟩ ?_
    cases h
    cases (show _ = (d', r) from K)
    exact v_iret F dX11_sample_9
theorem vm_X0_drawn {w : Wd} {l : Launch} {d m : Dt} {a1 a2 : Int} {r : Int} (hp : PB m 1 0) (h : fX0_drawn d a1 a2 = some r) : VM w l WF yX0_drawn cX0_drawn 3 (some .int) 1 22 0 0 d m [mA 1, mI a1, mI a2] (some (mI r)) d m := by
  obtain ⟨x, h, K⟩ : ∃ x, fX0_drawn d a1 a2 = some x ∧ x = r := ⟨_, h, rfl⟩
  refine VM.of (L := [mA 1, mI a1, mI a2]) (by decide +kernel) rfl (Nat.le_of_ble_eq_true rfl) fun G F _ => v_fact fun _ hX _ _ => ?_
  unfold fX0_drawn at h
  refine v_iload_n F dX0_drawn_0 rfl rfl ?_
  refine v_iconst F dX0_drawn_1 ⟨by decide, by decide⟩ ?_
  refine v_aload_n F dX0_drawn_2 rfl rfl ?_
  refine gf_X0_290 F dX0_drawn_3 hp ?_
  refine v_iconst F dX0_drawn_6 ⟨by decide, by decide⟩ ?_
  refine v_isub F dX0_drawn_7 ?_
  refine v_callSv F dX0_drawn_8 cs_X0_163 rfl (vm_X0_within) rfl (rOk.of rfl) ?_
  refine v_if_ne F dX0_drawn_11 rfl (fun hq1 => ?_) (fun hq1 => ?_)
  · rw [if_neg hq1] at h
    refine v_iload_n F dX0_drawn_16 rfl rfl ?_
    refine v_if_ne F dX0_drawn_17 rfl (fun hq2 => ?_) (fun hq2 => ?_)
    · rw [if_neg hq2] at h
      refine v_iload_n F dX0_drawn_29 rfl rfl ?_
      refine v_iconst F dX0_drawn_30 ⟨by decide, by decide⟩ ?_
      refine v_icmp_ne F dX0_drawn_31 rfl (fun hq3 => ?_) (fun hq3 => ?_)
      · rw [if_neg hq3] at h
        refine v_iload_n F dX0_drawn_43 rfl rfl ?_
        refine v_iconst F dX0_drawn_44 ⟨by decide, by decide⟩ ?_
        refine v_icmp_ne F dX0_drawn_45 rfl (fun hq4 => ?_) (fun hq4 => ?_)
        · rw [if_neg hq4] at h
          refine v_bipush F dX0_drawn_65 rfl ⟨by decide, by decide⟩ ?_
          cases h
          cases (show _ = r from K)
          exact v_iret F dX0_drawn_67
        · rw [if_pos hq4] at h
          refine v_aload_n F dX0_drawn_48 rfl rfl ?_
          refine gf_X0_140 F dX0_drawn_49 hp (v := 565) rfl ?_
          refine v_iload_n F dX0_drawn_52 rfl rfl ?_
          obtain ⟨hi5, h⟩ := ck_some h
          refine v_zald F dX0_drawn_53 (ar_X0_40 hX hp) hi5 ?_
          refine v_if_eq F dX0_drawn_54 rfl (fun hq6 => ?_) (fun hq6 => ?_)
          · rw [if_pos hq6] at h
            refine v_iconst F dX0_drawn_61 ⟨by decide, by decide⟩ ?_
            refine v_goto F dX0_drawn_62 rfl ?_
            cases h
            cases (show _ = r from K)
            exact v_iret F dX0_drawn_67
          · rw [if_neg hq6] at h
            refine v_iconst F dX0_drawn_57 ⟨by decide, by decide⟩ ?_
            refine v_goto F dX0_drawn_58 rfl ?_
            cases h
            cases (show _ = r from K)
            exact v_iret F dX0_drawn_67
      · rw [if_pos hq3] at h
        refine v_aload_n F dX0_drawn_34 rfl rfl ?_
        refine gf_X0_137 F dX0_drawn_35 hp (v := 564) rfl ?_
        refine v_iload_n F dX0_drawn_38 rfl rfl ?_
        obtain ⟨hi7, h⟩ := ck_some h
        refine v_iald F dX0_drawn_39 (ar_X0_39 hX hp) hi7 ?_
        refine v_goto F dX0_drawn_40 rfl ?_
        cases h
        cases (show _ = r from K)
        exact v_iret F dX0_drawn_67
    · rw [if_pos hq2] at h
      refine v_aload_n F dX0_drawn_20 rfl rfl ?_
      refine gf_X0_134 F dX0_drawn_21 hp (v := 563) rfl ?_
      refine v_iload_n F dX0_drawn_24 rfl rfl ?_
      obtain ⟨hi8, h⟩ := ck_some h
      refine v_iald F dX0_drawn_25 (ar_X0_38 hX hp) hi8 ?_
      refine v_goto F dX0_drawn_26 rfl ?_
      cases h
      cases (show _ = r from K)
      exact v_iret F dX0_drawn_67
  · rw [if_pos hq1] at h
    refine v_iconst F dX0_drawn_14 ⟨by decide, by decide⟩ ?_
    cases h
    cases (show _ = r from K)
    exact v_iret F dX0_drawn_15
theorem vm_X11_drawn {w : Wd} {l : Launch} {d m : Dt} {a1 a2 : Int} {r : Int} (hp : PB m 1545 11) (h : fX11_drawn d a1 a2 = some r) : VM w l WF yX11_drawn cX11_drawn 3 (some .int) 1 25 0 0 d m [mA 1545, mI a1, mI a2] (some (mI r)) d m := by
  obtain ⟨x, h, K⟩ : ∃ x, fX11_drawn d a1 a2 = some x ∧ x = r := ⟨_, h, rfl⟩
  refine VM.of (L := [mA 1545, mI a1, mI a2]) (by decide +kernel) rfl (Nat.le_of_ble_eq_true rfl) fun G F _ => v_fact fun _ hX _ _ => ?_
  unfold fX11_drawn at h
  refine v_iload_n F dX11_drawn_0 rfl rfl ?_
  refine v_i2l F dX11_drawn_1 ?_
  refine v_lconst0 F dX11_drawn_2 ?_
  refine v_aload_n F dX11_drawn_3 rfl rfl ?_
  refine gf_X11_564 F dX11_drawn_4 hp ?_
  refine v_iconst F dX11_drawn_7 ⟨by decide, by decide⟩ ?_
  refine v_isub F dX11_drawn_8 ?_
  refine v_i2l F dX11_drawn_9 ?_
  refine v_callSv F dX11_drawn_10 cs_X11_13 rfl (vm_X11_in) rfl (rOk.of rfl) ?_
  refine v_if_ne F dX11_drawn_13 rfl (fun hq1 => ?_) (fun hq1 => ?_)
  · rw [if_neg hq1] at h
    refine v_iload_n F dX11_drawn_18 rfl rfl ?_
    refine v_if_ne F dX11_drawn_19 rfl (fun hq2 => ?_) (fun hq2 => ?_)
    · rw [if_neg hq2] at h
      refine v_iload_n F dX11_drawn_31 rfl rfl ?_
      refine v_iconst F dX11_drawn_32 ⟨by decide, by decide⟩ ?_
      refine v_icmp_ne F dX11_drawn_33 rfl (fun hq3 => ?_) (fun hq3 => ?_)
      · rw [if_neg hq3] at h
        refine v_iload_n F dX11_drawn_45 rfl rfl ?_
        refine v_iconst F dX11_drawn_46 ⟨by decide, by decide⟩ ?_
        refine v_icmp_ne F dX11_drawn_47 rfl (fun hq4 => ?_) (fun hq4 => ?_)
        · rw [if_neg hq4] at h
          refine v_bipush F dX11_drawn_67 rfl ⟨by decide, by decide⟩ ?_
          cases h
          cases (show _ = r from K)
          exact v_iret F dX11_drawn_69
        · rw [if_pos hq4] at h
          refine v_aload_n F dX11_drawn_50 rfl rfl ?_
          refine gf_X11_1132 F dX11_drawn_51 hp (v := 1656) rfl ?_
          refine v_iload_n F dX11_drawn_54 rfl rfl ?_
          obtain ⟨hi5, h⟩ := ck_some h
          refine v_zald F dX11_drawn_55 (ar_X11_156 hX hp) hi5 ?_
          refine v_if_eq F dX11_drawn_56 rfl (fun hq6 => ?_) (fun hq6 => ?_)
          · rw [if_pos hq6] at h
            refine v_iconst F dX11_drawn_63 ⟨by decide, by decide⟩ ?_
            refine v_goto F dX11_drawn_64 rfl ?_
            cases h
            cases (show _ = r from K)
            exact v_iret F dX11_drawn_69
          · rw [if_neg hq6] at h
            refine v_iconst F dX11_drawn_59 ⟨by decide, by decide⟩ ?_
            refine v_goto F dX11_drawn_60 rfl ?_
            cases h
            cases (show _ = r from K)
            exact v_iret F dX11_drawn_69
      · rw [if_pos hq3] at h
        refine v_aload_n F dX11_drawn_36 rfl rfl ?_
        refine gf_X11_1129 F dX11_drawn_37 hp (v := 1655) rfl ?_
        refine v_iload_n F dX11_drawn_40 rfl rfl ?_
        obtain ⟨hi7, h⟩ := ck_some h
        refine v_iald F dX11_drawn_41 (ar_X11_155 hX hp) hi7 ?_
        refine v_goto F dX11_drawn_42 rfl ?_
        cases h
        cases (show _ = r from K)
        exact v_iret F dX11_drawn_69
    · rw [if_pos hq2] at h
      refine v_aload_n F dX11_drawn_22 rfl rfl ?_
      refine gf_X11_1126 F dX11_drawn_23 hp (v := 1654) rfl ?_
      refine v_iload_n F dX11_drawn_26 rfl rfl ?_
      obtain ⟨hi8, h⟩ := ck_some h
      refine v_iald F dX11_drawn_27 (ar_X11_154 hX hp) hi8 ?_
      refine v_goto F dX11_drawn_28 rfl ?_
      cases h
      cases (show _ = r from K)
      exact v_iret F dX11_drawn_69
  · rw [if_pos hq1] at h
    refine v_iconst F dX11_drawn_16 ⟨by decide, by decide⟩ ?_
    cases h
    cases (show _ = r from K)
    exact v_iret F dX11_drawn_17
theorem vm_X0_risk {w : Wd} {l : Launch} {d m : Dt} {a1 : Int} (hp : PB m 1 0) : VM w l WF yX0_risk cX0_risk 2 (some .long) 0 0 0 0 d m [mA 1, mI a1] (some (mL (fX0_risk d a1))) d m := by
  obtain ⟨r, hr⟩ : ∃ r, fX0_risk d a1 = r := ⟨_, rfl⟩
  rw [hr]
  obtain ⟨x, h, K⟩ : ∃ x, fX0_risk d a1 = x ∧ x = r := ⟨_, hr, rfl⟩
  refine VM.of (L := [mA 1, mI a1]) (by decide +kernel) rfl (Nat.le_of_ble_eq_true rfl) fun G F _ => v_fact fun _ hX _ _ => ?_
  unfold fX0_risk at h
  refine v_aload_n F dX0_risk_0 rfl rfl ?_
  refine gf_X0_290 F dX0_risk_1 hp ?_
  refine v_if_ne F dX0_risk_4 rfl (fun hq1 => ?_) (fun hq1 => ?_)
  · rw [if_neg hq1] at h
    refine v_iload_n F dX0_risk_13 rfl rfl ?_
    refine v_if_ne F dX0_risk_14 rfl (fun hq2 => ?_) (fun hq2 => ?_)
    · rw [if_neg hq2] at h
      refine v_iload_n F dX0_risk_24 rfl rfl ?_
      refine v_iconst F dX0_risk_25 ⟨by decide, by decide⟩ ?_
      refine v_icmp_ne F dX0_risk_26 rfl (fun hq3 => ?_) (fun hq3 => ?_)
      · rw [if_neg hq3] at h
        refine v_ldc2 (n := (-2)) F dX0_risk_36 q2392 rfl ⟨by decide, by decide⟩ ?_
        subst h
        cases (show _ = r from K)
        exact v_lret F dX0_risk_39
      · rw [if_pos hq3] at h
        refine v_aload_n F dX0_risk_29 rfl rfl ?_
        refine gf_X0_650 F dX0_risk_30 hp ?_
        refine v_goto F dX0_risk_33 rfl ?_
        subst h
        cases (show _ = r from K)
        exact v_lret F dX0_risk_39
    · rw [if_pos hq2] at h
      refine v_aload_n F dX0_risk_17 rfl rfl ?_
      refine gf_X0_647 F dX0_risk_18 hp ?_
      refine v_goto F dX0_risk_21 rfl ?_
      subst h
      cases (show _ = r from K)
      exact v_lret F dX0_risk_39
  · rw [if_pos hq1] at h
    refine v_ldc2 (n := (-1)) F dX0_risk_7 q2346 rfl ⟨by decide, by decide⟩ ?_
    refine v_goto F dX0_risk_10 rfl ?_
    subst h
    cases (show _ = r from K)
    exact v_lret F dX0_risk_39
theorem vm_X11_risk {w : Wd} {l : Launch} {d m : Dt} {a1 : Int} (hp : PB m 1545 11) : VM w l WF yX11_risk cX11_risk 2 (some .long) 0 0 0 0 d m [mA 1545, mI a1] (some (mL (fX11_risk d a1))) d m := by
  obtain ⟨r, hr⟩ : ∃ r, fX11_risk d a1 = r := ⟨_, rfl⟩
  rw [hr]
  obtain ⟨x, h, K⟩ : ∃ x, fX11_risk d a1 = x ∧ x = r := ⟨_, hr, rfl⟩
  refine VM.of (L := [mA 1545, mI a1]) (by decide +kernel) rfl (Nat.le_of_ble_eq_true rfl) fun G F _ => v_fact fun _ hX _ _ => ?_
  unfold fX11_risk at h
  refine v_aload_n F dX11_risk_0 rfl rfl ?_
  refine gf_X11_561 F dX11_risk_1 hp ?_
  refine v_if_ne F dX11_risk_4 rfl (fun hq1 => ?_) (fun hq1 => ?_)
  · rw [if_neg hq1] at h
    refine v_iload_n F dX11_risk_13 rfl rfl ?_
    refine v_if_ne F dX11_risk_14 rfl (fun hq2 => ?_) (fun hq2 => ?_)
    · rw [if_neg hq2] at h
      refine v_iload_n F dX11_risk_24 rfl rfl ?_
      refine v_iconst F dX11_risk_25 ⟨by decide, by decide⟩ ?_
      refine v_icmp_ne F dX11_risk_26 rfl (fun hq3 => ?_) (fun hq3 => ?_)
      · rw [if_neg hq3] at h
        refine v_ldc2 (n := (-2)) F dX11_risk_36 q3886 rfl ⟨by decide, by decide⟩ ?_
        subst h
        cases (show _ = r from K)
        exact v_lret F dX11_risk_39
      · rw [if_pos hq3] at h
        refine v_aload_n F dX11_risk_29 rfl rfl ?_
        refine gf_X11_1258 F dX11_risk_30 hp ?_
        refine v_goto F dX11_risk_33 rfl ?_
        subst h
        cases (show _ = r from K)
        exact v_lret F dX11_risk_39
    · rw [if_pos hq2] at h
      refine v_aload_n F dX11_risk_17 rfl rfl ?_
      refine gf_X11_1254 F dX11_risk_18 hp ?_
      refine v_goto F dX11_risk_21 rfl ?_
      subst h
      cases (show _ = r from K)
      exact v_lret F dX11_risk_39
  · rw [if_pos hq1] at h
    refine v_ldc2 (n := (-1)) F dX11_risk_7 q2492 rfl ⟨by decide, by decide⟩ ?_
    refine v_goto F dX11_risk_10 rfl ?_
    subst h
    cases (show _ = r from K)
    exact v_lret F dX11_risk_39
theorem vm_X0_stops {w : Wd} {l : Launch} {d m : Dt} {a1 a2 : Int} (hp : PB m 1 0) : VM w l WF yX0_stops cX0_stops 3 (some .int) 1 22 0 0 d m [mA 1, mI a1, mI a2] (some (mI (fX0_stops d a1 a2))) d m := by
  obtain ⟨r, hr⟩ : ∃ r, fX0_stops d a1 a2 = r := ⟨_, rfl⟩
  rw [hr]
  obtain ⟨x, h, K⟩ : ∃ x, fX0_stops d a1 a2 = x ∧ x = r := ⟨_, hr, rfl⟩
  refine VM.of (L := [mA 1, mI a1, mI a2]) (by decide +kernel) rfl (Nat.le_of_ble_eq_true rfl) fun G F _ => v_fact fun _ hX _ _ => ?_
  unfold fX0_stops at h
  refine v_aload_n F dX0_stops_0 rfl rfl ?_
  refine gf_X0_290 F dX0_stops_1 hp ?_
  refine v_if_ne F dX0_stops_4 rfl (fun hq1 => ?_) (fun hq1 => ?_)
  · rw [if_neg hq1] at h
    refine v_iload_n F dX0_stops_9 rfl rfl ?_
    refine v_iconst F dX0_stops_10 ⟨by decide, by decide⟩ ?_
    refine v_bipush F dX0_stops_11 rfl ⟨by decide, by decide⟩ ?_
    refine v_callSv F dX0_stops_13 cs_X0_163 rfl (vm_X0_within) rfl (rOk.of rfl) ?_
    refine v_if_eq F dX0_stops_16 rfl (fun hq2 => ?_) (fun hq2 => ?_)
    · rw [if_pos hq2] at h
      refine v_bipush F dX0_stops_28 rfl ⟨by decide, by decide⟩ ?_
      subst h
      cases (show _ = r from K)
      exact v_iret F dX0_stops_30
    · rw [if_neg hq2] at h
      refine v_iload_n F dX0_stops_19 rfl rfl ?_
      refine v_iconst F dX0_stops_20 ⟨by decide, by decide⟩ ?_
      refine v_iload_n F dX0_stops_21 rfl rfl ?_
      refine v_callSv F dX0_stops_22 cs_X0_163 rfl (vm_X0_within) rfl (rOk.of rfl) ?_
      refine v_if_ne F dX0_stops_25 rfl (fun hq3 => ?_) (fun hq3 => ?_)
      · rw [if_neg hq3] at h
        refine v_aload_n F dX0_stops_31 rfl rfl ?_
        refine gf_X0_647 F dX0_stops_32 hp ?_
        refine v_iload_n F dX0_stops_35 rfl rfl ?_
        refine v_i2l F dX0_stops_36 ?_
        refine v_lmul F dX0_stops_37 ?_
        refine v_aload_n F dX0_stops_38 rfl rfl ?_
        refine gf_X0_650 F dX0_stops_39 hp ?_
        refine v_iload_n F dX0_stops_42 rfl rfl ?_
        refine v_i2l F dX0_stops_43 ?_
        refine v_lmul F dX0_stops_44 ?_
        refine v_lcmp F dX0_stops_45 ?_
        refine v_if_gt F dX0_stops_46 rfl (fun hq4 => ?_) (fun hq4 => ?_)
        · rw [if_pos hq4] at h
          refine v_iconst F dX0_stops_53 ⟨by decide, by decide⟩ ?_
          subst h
          cases (show _ = r from K)
          exact v_iret F dX0_stops_54
        · rw [if_neg hq4] at h
          refine v_iconst F dX0_stops_49 ⟨by decide, by decide⟩ ?_
          refine v_goto F dX0_stops_50 rfl ?_
          subst h
          cases (show _ = r from K)
          exact v_iret F dX0_stops_54
      · rw [if_pos hq3] at h
        refine v_bipush F dX0_stops_28 rfl ⟨by decide, by decide⟩ ?_
        subst h
        cases (show _ = r from K)
        exact v_iret F dX0_stops_30
  · rw [if_pos hq1] at h
    refine v_iconst F dX0_stops_7 ⟨by decide, by decide⟩ ?_
    subst h
    cases (show _ = r from K)
    exact v_iret F dX0_stops_8
theorem vm_X11_stops {w : Wd} {l : Launch} {d m : Dt} {a1 a2 : Int} (hp : PB m 1545 11) : VM w l WF yX11_stops cX11_stops 3 (some .int) 1 25 0 0 d m [mA 1545, mI a1, mI a2] (some (mI (fX11_stops d a1 a2))) d m := by
  obtain ⟨r, hr⟩ : ∃ r, fX11_stops d a1 a2 = r := ⟨_, rfl⟩
  rw [hr]
  obtain ⟨x, h, K⟩ : ∃ x, fX11_stops d a1 a2 = x ∧ x = r := ⟨_, hr, rfl⟩
  refine VM.of (L := [mA 1545, mI a1, mI a2]) (by decide +kernel) rfl (Nat.le_of_ble_eq_true rfl) fun G F _ => v_fact fun _ hX _ _ => ?_
  unfold fX11_stops at h
  refine v_aload_n F dX11_stops_0 rfl rfl ?_
  refine gf_X11_561 F dX11_stops_1 hp ?_
  refine v_if_ne F dX11_stops_4 rfl (fun hq1 => ?_) (fun hq1 => ?_)
  · rw [if_neg hq1] at h
    refine v_iload_n F dX11_stops_9 rfl rfl ?_
    refine v_i2l F dX11_stops_10 ?_
    refine v_lconst1 F dX11_stops_11 ?_
    refine v_ldc2 (n := 50) F dX11_stops_12 q3891 rfl ⟨by decide, by decide⟩ ?_
    refine v_callSv F dX11_stops_15 cs_X11_13 rfl (vm_X11_in) rfl (rOk.of rfl) ?_
    refine v_if_eq F dX11_stops_18 rfl (fun hq2 => ?_) (fun hq2 => ?_)
    · rw [if_pos hq2] at h
      refine v_bipush F dX11_stops_32 rfl ⟨by decide, by decide⟩ ?_
      subst h
      cases (show _ = r from K)
      exact v_iret F dX11_stops_34
    · rw [if_neg hq2] at h
      refine v_iload_n F dX11_stops_21 rfl rfl ?_
      refine v_i2l F dX11_stops_22 ?_
      refine v_lconst0 F dX11_stops_23 ?_
      refine v_iload_n F dX11_stops_24 rfl rfl ?_
      refine v_i2l F dX11_stops_25 ?_
      refine v_callSv F dX11_stops_26 cs_X11_13 rfl (vm_X11_in) rfl (rOk.of rfl) ?_
      refine v_if_ne F dX11_stops_29 rfl (fun hq3 => ?_) (fun hq3 => ?_)
      · rw [if_neg hq3] at h
        refine v_aload_n F dX11_stops_35 rfl rfl ?_
        refine gf_X11_1254 F dX11_stops_36 hp ?_
        refine v_iload_n F dX11_stops_39 rfl rfl ?_
        refine v_i2l F dX11_stops_40 ?_
        refine v_lmul F dX11_stops_41 ?_
        refine v_aload_n F dX11_stops_42 rfl rfl ?_
        refine gf_X11_1258 F dX11_stops_43 hp ?_
        refine v_iload_n F dX11_stops_46 rfl rfl ?_
        refine v_i2l F dX11_stops_47 ?_
        refine v_lmul F dX11_stops_48 ?_
        refine v_lcmp F dX11_stops_49 ?_
        refine v_if_gt F dX11_stops_50 rfl (fun hq4 => ?_) (fun hq4 => ?_)
        · rw [if_pos hq4] at h
          refine v_iconst F dX11_stops_57 ⟨by decide, by decide⟩ ?_
          subst h
          cases (show _ = r from K)
          exact v_iret F dX11_stops_58
        · rw [if_neg hq4] at h
          refine v_iconst F dX11_stops_53 ⟨by decide, by decide⟩ ?_
          refine v_goto F dX11_stops_54 rfl ?_
          subst h
          cases (show _ = r from K)
          exact v_iret F dX11_stops_58
      · rw [if_pos hq3] at h
        refine v_bipush F dX11_stops_32 rfl ⟨by decide, by decide⟩ ?_
        subst h
        cases (show _ = r from K)
        exact v_iret F dX11_stops_34
  · rw [if_pos hq1] at h
    refine v_iconst F dX11_stops_7 ⟨by decide, by decide⟩ ?_
    subst h
    cases (show _ = r from K)
    exact v_iret F dX11_stops_8
theorem vm_X7_at {w : Wd} {l : Launch} {d m : Dt} {a1 : Int} {r : Int} (hp : PB m 53 7) (h : fX7_at d a1 = some r) : VM w l WF yX7_at cX7_at 2 (some .int) 0 0 0 0 d m [mA 53, mI a1] (some (mI r)) d m := by
  obtain ⟨x, h, K⟩ : ∃ x, fX7_at d a1 = some x ∧ x = r := ⟨_, h, rfl⟩
  refine VM.of (L := [mA 53, mI a1]) (by decide +kernel) rfl (Nat.le_of_ble_eq_true rfl) fun G F _ => v_fact fun _ hX _ _ => ?_
  unfold fX7_at at h
  refine v_aload_n F dX7_at_0 rfl rfl ?_
  refine gf_X7_16 F dX7_at_1 hp (v := 56) rfl ?_
  refine v_iload_n F dX7_at_4 rfl rfl ?_
  refine v_iconst F dX7_at_5 ⟨by decide, by decide⟩ ?_
  refine v_idiv F dX7_at_6 (by decide) ?_
  obtain ⟨x1, ex1, h⟩ := lv_some h
  refine v_nI ex1 ?_
  obtain ⟨hi2, h⟩ := ck_some h
  refine v_iald F dX7_at_7 (ar_X7_2 hX hp) hi2 ?_
  refine v_bipush F dX7_at_8 rfl ⟨by decide, by decide⟩ ?_
  refine v_bipush F dX7_at_10 rfl ⟨by decide, by decide⟩ ?_
  refine v_iload_n F dX7_at_12 rfl rfl ?_
  refine v_iconst F dX7_at_13 ⟨by decide, by decide⟩ ?_
  refine v_irem F dX7_at_14 (by decide) ?_
  refine v_imul F dX7_at_15 ?_
  refine v_isub F dX7_at_16 ?_
  refine v_ishr F dX7_at_17 ?_
  refine v_sipush F dX7_at_18 rfl ⟨by decide, by decide⟩ ?_
  refine v_iand F dX7_at_21 ?_
  cases h
  cases (show _ = r from K)
  exact v_iret F dX7_at_22
theorem vm_X0_head {w : Wd} {l : Launch} {d m : Dt} {a1 : Int} {r : Int} (hp : PB m 1 0) (h : fX0_head d a1 = some r) : VM w l WF yX0_head cX0_head 2 (some .int) 1 22 0 0 d m [mA 1, mI a1] (some (mI r)) d m := by
  obtain ⟨x, h, K⟩ : ∃ x, fX0_head d a1 = some x ∧ x = r := ⟨_, h, rfl⟩
  refine VM.of (L := [mA 1, mI a1]) (by decide +kernel) rfl (Nat.le_of_ble_eq_true rfl) fun G F _ => v_fact fun _ hX _ _ => ?_
  unfold fX0_head at h
  refine v_iload_n F dX0_head_0 rfl rfl ?_
  refine v_iconst F dX0_head_1 ⟨by decide, by decide⟩ ?_
  refine v_bipush F dX0_head_2 rfl ⟨by decide, by decide⟩ ?_
  refine v_callSv F dX0_head_4 cs_X0_163 rfl (vm_X0_within) rfl (rOk.of rfl) ?_
  refine v_if_eq F dX0_head_7 rfl (fun hq1 => ?_) (fun hq1 => ?_)
  · rw [if_pos hq1] at h
    refine v_iconst F dX0_head_21 ⟨by decide, by decide⟩ ?_
    cases h
    cases (show _ = r from K)
    exact v_iret F dX0_head_22
  · rw [if_neg hq1] at h
    refine v_aload_n F dX0_head_10 rfl rfl ?_
    refine gf_X0_56 F dX0_head_11 hp (v := 53) rfl ?_
    refine v_iload_n F dX0_head_14 rfl rfl ?_
    obtain ⟨x2, hc3, h⟩ := b1_some h
    refine v_callVv (c := 7) F dX0_head_15 cv_X0_671 rfl (PB.ob (ob_X0_11 hX hp) hX (Nat.le_of_ble_eq_true rfl)) (Nat.le_of_ble_eq_true rfl) rfl (vm_X7_at (ob_X0_11 hX hp) hc3) rfl (rOk.of rfl) ?_
    refine v_goto F dX0_head_18 rfl ?_
    cases h
    cases (show _ = r from K)
    exact v_iret F dX0_head_22
theorem vm_X11_head {w : Wd} {l : Launch} {d m : Dt} {a1 : Int} {r : Int} (hp : PB m 1545 11) (h : fX11_head d a1 = some r) : VM w l WF yX11_head cX11_head 2 (some .int) 1 25 0 0 d m [mA 1545, mI a1] (some (mI r)) d m := by
  obtain ⟨x, h, K⟩ : ∃ x, fX11_head d a1 = some x ∧ x = r := ⟨_, h, rfl⟩
  refine VM.of (L := [mA 1545, mI a1]) (by decide +kernel) rfl (Nat.le_of_ble_eq_true rfl) fun G F _ => v_fact fun _ hX _ _ => ?_
  unfold fX11_head at h
  refine v_iload_n F dX11_head_0 rfl rfl ?_
  refine v_i2l F dX11_head_1 ?_
  refine v_lconst0 F dX11_head_2 ?_
  refine v_ldc2 (n := 31) F dX11_head_3 q3896 rfl ⟨by decide, by decide⟩ ?_
  refine v_callSv F dX11_head_6 cs_X11_13 rfl (vm_X11_in) rfl (rOk.of rfl) ?_
  refine v_if_eq F dX11_head_9 rfl (fun hq1 => ?_) (fun hq1 => ?_)
  · rw [if_pos hq1] at h
    refine v_iconst F dX11_head_25 ⟨by decide, by decide⟩ ?_
    cases h
    cases (show _ = r from K)
    exact v_iret F dX11_head_26
  · rw [if_neg hq1] at h
    refine v_aload_n F dX11_head_12 rfl rfl ?_
    refine gf_X11_1141 F dX11_head_13 hp (v := 1659) rfl ?_
    refine v_iload_n F dX11_head_16 rfl rfl ?_
    obtain ⟨hi2, h⟩ := ck_some h
    refine v_bald F dX11_head_17 (ar_X11_164 hX hp) hi2 ?_
    refine v_sipush F dX11_head_18 rfl ⟨by decide, by decide⟩ ?_
    refine v_iand F dX11_head_21 ?_
    refine v_goto F dX11_head_22 rfl ?_
    cases h
    cases (show _ = r from K)
    exact v_iret F dX11_head_26
theorem fX0_more_12_ok {w : Wd} {l : Launch} {G : Cx} {d m dd : Dt} {a1 s0 : Int} {r : Int} {x : Int} (F : Fx w G cX0_more RX0 3 (some .int) { frames := 0, cells := 0, slots := 0, locals := 0 }) (hX : WF dd m) (hp : PB m 1 0) (h : fX0_more_12 d a1 s0 = x) (K : (fun q => q = r) x) : V w l WF G (QM w G WF (some (mI r)) d m 0 0) d m 0 0 12 [mA 1, mI a1, mU] [mI s0] := by
  unfold fX0_more_12 at h
  refine v_istore_n F dX0_more_12 rfl (Nat.le_of_ble_eq_true rfl) (L' := [mA 1, mI a1, mI s0]) rfl ?_
  refine v_iload_n F dX0_more_13 rfl rfl ?_
  by_cases hq2 : a1 = 13
  · rw [if_pos hq2] at h
    refine v_tableIn F dX0_more_14 hq2 (by decide) (by decide) rfl rfl ?_
    refine v_aload_n F dX0_more_68 rfl rfl ?_
    refine gf_X0_287 F dX0_more_69 hp ?_
    refine v_if_eq F dX0_more_72 rfl (fun hq3 => ?_) (fun hq3 => ?_)
    · rw [if_pos hq3] at h
      refine v_iconst F dX0_more_85 ⟨by decide, by decide⟩ ?_
      subst h
      cases (show _ = r from K)
      exact v_iret F dX0_more_86
    · rw [if_neg hq3] at h
      refine v_aload_n F dX0_more_75 rfl rfl ?_
      refine gf_X0_127 F dX0_more_76 hp (v := 79) rfl ?_
      refine gf_X0_677 F dX0_more_79 (ob_X0_35 hX hp) ?_
      refine v_goto F dX0_more_82 rfl ?_
      subst h
      cases (show _ = r from K)
      exact v_iret F dX0_more_86
  · rw [if_neg hq2] at h
    by_cases hq4 : a1 = 14
    · rw [if_pos hq4] at h
      refine v_tableIn F dX0_more_14 hq4 (by decide) (by decide) rfl rfl ?_
      refine v_aload_n F dX0_more_87 rfl rfl ?_
      refine gf_X0_287 F dX0_more_88 hp ?_
      refine v_if_eq F dX0_more_91 rfl (fun hq5 => ?_) (fun hq5 => ?_)
      · rw [if_pos hq5] at h
        refine v_iconst F dX0_more_104 ⟨by decide, by decide⟩ ?_
        subst h
        cases (show _ = r from K)
        exact v_iret F dX0_more_105
      · rw [if_neg hq5] at h
        refine v_aload_n F dX0_more_94 rfl rfl ?_
        refine gf_X0_127 F dX0_more_95 hp (v := 79) rfl ?_
        refine gf_X0_680 F dX0_more_98 (ob_X0_35 hX hp) ?_
        refine v_goto F dX0_more_101 rfl ?_
        subst h
        cases (show _ = r from K)
        exact v_iret F dX0_more_105
    · rw [if_neg hq4] at h
      by_cases hq6 : a1 = 15
      · rw [if_pos hq6] at h
        refine v_tableIn F dX0_more_14 hq6 (by decide) (by decide) rfl rfl ?_
        refine v_aload_n F dX0_more_106 rfl rfl ?_
        refine gf_X0_287 F dX0_more_107 hp ?_
        refine v_if_eq F dX0_more_110 rfl (fun hq7 => ?_) (fun hq7 => ?_)
        · rw [if_pos hq7] at h
          refine v_iconst F dX0_more_123 ⟨by decide, by decide⟩ ?_
          subst h
          cases (show _ = r from K)
          exact v_iret F dX0_more_124
        · rw [if_neg hq7] at h
          refine v_aload_n F dX0_more_113 rfl rfl ?_
          refine gf_X0_127 F dX0_more_114 hp (v := 79) rfl ?_
          refine gf_X0_683 F dX0_more_117 (ob_X0_35 hX hp) ?_
          refine v_goto F dX0_more_120 rfl ?_
          subst h
          cases (show _ = r from K)
          exact v_iret F dX0_more_124
      · rw [if_neg hq6] at h
        by_cases hq8 : a1 = 16
        · rw [if_pos hq8] at h
          refine v_tableIn F dX0_more_14 hq8 (by decide) (by decide) rfl rfl ?_
          refine v_aload_n F dX0_more_125 rfl rfl ?_
          refine gf_X0_287 F dX0_more_126 hp ?_
          refine v_if_eq F dX0_more_129 rfl (fun hq9 => ?_) (fun hq9 => ?_)
          · rw [if_pos hq9] at h
            refine v_iconst F dX0_more_142 ⟨by decide, by decide⟩ ?_
            subst h
            cases (show _ = r from K)
            exact v_iret F dX0_more_143
          · rw [if_neg hq9] at h
            refine v_aload_n F dX0_more_132 rfl rfl ?_
            refine gf_X0_127 F dX0_more_133 hp (v := 79) rfl ?_
            refine gf_X0_587 F dX0_more_136 (ob_X0_35 hX hp) ?_
            refine v_goto F dX0_more_139 rfl ?_
            subst h
            cases (show _ = r from K)
            exact v_iret F dX0_more_143
        · rw [if_neg hq8] at h
          by_cases hq10 : a1 = 17
          · rw [if_pos hq10] at h
            refine v_tableIn F dX0_more_14 hq10 (by decide) (by decide) rfl rfl ?_
            refine v_aload_n F dX0_more_144 rfl rfl ?_
            refine gf_X0_287 F dX0_more_145 hp ?_
            refine v_if_eq F dX0_more_148 rfl (fun hq11 => ?_) (fun hq11 => ?_)
            · rw [if_pos hq11] at h
              refine v_iconst F dX0_more_161 ⟨by decide, by decide⟩ ?_
              subst h
              cases (show _ = r from K)
              exact v_iret F dX0_more_162
            · rw [if_neg hq11] at h
              refine v_aload_n F dX0_more_151 rfl rfl ?_
              refine gf_X0_127 F dX0_more_152 hp (v := 79) rfl ?_
              refine gf_X0_686 F dX0_more_155 (ob_X0_35 hX hp) ?_
              refine v_goto F dX0_more_158 rfl ?_
              subst h
              cases (show _ = r from K)
              exact v_iret F dX0_more_162
          · rw [if_neg hq10] at h
            by_cases hq12 : a1 = 18
            · rw [if_pos hq12] at h
              refine v_tableIn F dX0_more_14 hq12 (by decide) (by decide) rfl rfl ?_
              refine v_aload_n F dX0_more_163 rfl rfl ?_
              refine gf_X0_290 F dX0_more_164 hp ?_
              subst h
              cases (show _ = r from K)
              exact v_iret F dX0_more_167
            · rw [if_neg hq12] at h
              by_cases hq13 : a1 = 19
              · rw [if_pos hq13] at h
                refine v_tableIn F dX0_more_14 hq13 (by decide) (by decide) rfl rfl ?_
                refine v_aload_n F dX0_more_168 rfl rfl ?_
                refine gf_X0_157 F dX0_more_169 hp ?_
                subst h
                cases (show _ = r from K)
                exact v_iret F dX0_more_172
              · rw [if_neg hq13] at h
                by_cases hq14 : a1 = 20
                · rw [if_pos hq14] at h
                  refine v_tableIn F dX0_more_14 hq14 (by decide) (by decide) rfl rfl ?_
                  refine v_iload_n F dX0_more_173 rfl rfl ?_
                  refine v_if_eq F dX0_more_174 rfl (fun hq15 => ?_) (fun hq15 => ?_)
                  · rw [if_pos hq15] at h
                    refine v_iconst F dX0_more_184 ⟨by decide, by decide⟩ ?_
                    subst h
                    cases (show _ = r from K)
                    exact v_iret F dX0_more_185
                  · rw [if_neg hq15] at h
                    refine v_aload_n F dX0_more_177 rfl rfl ?_
                    refine gf_X0_627 F dX0_more_178 hp ?_
                    refine v_goto F dX0_more_181 rfl ?_
                    subst h
                    cases (show _ = r from K)
                    exact v_iret F dX0_more_185
                · rw [if_neg hq14] at h
                  by_cases hq16 : a1 = 21
                  · rw [if_pos hq16] at h
                    refine v_tableIn F dX0_more_14 hq16 (by decide) (by decide) rfl rfl ?_
                    refine v_iload_n F dX0_more_186 rfl rfl ?_
                    refine v_if_eq F dX0_more_187 rfl (fun hq17 => ?_) (fun hq17 => ?_)
                    · rw [if_pos hq17] at h
                      refine v_iconst F dX0_more_197 ⟨by decide, by decide⟩ ?_
                      subst h
                      cases (show _ = r from K)
                      exact v_iret F dX0_more_198
                    · rw [if_neg hq17] at h
                      refine v_aload_n F dX0_more_190 rfl rfl ?_
                      refine gf_X0_659 F dX0_more_191 hp ?_
                      refine v_goto F dX0_more_194 rfl ?_
                      subst h
                      cases (show _ = r from K)
                      exact v_iret F dX0_more_198
                  · rw [if_neg hq16] at h
                    by_cases hq18 : a1 = 22
                    · rw [if_pos hq18] at h
                      refine v_tableIn F dX0_more_14 hq18 (by decide) (by decide) rfl rfl ?_
                      refine v_iload_n F dX0_more_199 rfl rfl ?_
                      refine v_if_eq F dX0_more_200 rfl (fun hq19 => ?_) (fun hq19 => ?_)
                      · rw [if_pos hq19] at h
                        refine v_iconst F dX0_more_210 ⟨by decide, by decide⟩ ?_
                        subst h
                        cases (show _ = r from K)
                        exact v_iret F dX0_more_211
                      · rw [if_neg hq19] at h
                        refine v_aload_n F dX0_more_203 rfl rfl ?_
                        refine gf_X0_641 F dX0_more_204 hp ?_
                        refine v_goto F dX0_more_207 rfl ?_
                        subst h
                        cases (show _ = r from K)
                        exact v_iret F dX0_more_211
                    · rw [if_neg hq18] at h
                      refine v_tableOut F dX0_more_14 (by omega) rfl ?_
                      refine v_bipush F dX0_more_212 rfl ⟨by decide, by decide⟩ ?_
                      subst h
                      cases (show _ = r from K)
                      exact v_iret F dX0_more_214
theorem vm_X0_more {w : Wd} {l : Launch} {d m : Dt} {a1 : Int} (hp : PB m 1 0) : VM w l WF yX0_more cX0_more 3 (some .int) 0 0 0 0 d m [mA 1, mI a1] (some (mI (fX0_more d a1))) d m := by
  obtain ⟨r, hr⟩ : ∃ r, fX0_more d a1 = r := ⟨_, rfl⟩
  rw [hr]
  obtain ⟨x, h, K⟩ : ∃ x, fX0_more d a1 = x ∧ x = r := ⟨_, hr, rfl⟩
  refine VM.of (L := [mA 1, mI a1, mU]) (by decide +kernel) rfl (Nat.le_of_ble_eq_true rfl) fun G F _ => v_fact fun _ hX _ _ => ?_
  unfold fX0_more at h
  refine v_aload_n F dX0_more_0 rfl rfl ?_
  refine gf_X0_290 F dX0_more_1 hp ?_
  refine v_if_le F dX0_more_4 rfl (fun hq1 => ?_) (fun hq1 => ?_)
  · rw [if_pos hq1] at h
    refine v_iconst F dX0_more_11 ⟨by decide, by decide⟩ ?_
    exact fX0_more_12_ok F hX hp h K
  · rw [if_neg hq1] at h
    refine v_iconst F dX0_more_7 ⟨by decide, by decide⟩ ?_
    refine v_goto F dX0_more_8 rfl ?_
    exact fX0_more_12_ok F hX hp h K
theorem vm_X0_told {w : Wd} {l : Launch} {d m : Dt} {a1 : Int} {r : Int} (hp : PB m 1 0) (h : fX0_told d a1 = some r) : VM w l WF yX0_told cX0_told 2 (some .int) 1 22 0 0 d m [mA 1, mI a1] (some (mI r)) d m := by
  obtain ⟨x, h, K⟩ : ∃ x, fX0_told d a1 = some x ∧ x = r := ⟨_, h, rfl⟩
  refine VM.of (L := [mA 1, mI a1]) (by decide +kernel) rfl (Nat.le_of_ble_eq_true rfl) fun G F _ => v_fact fun _ hX _ _ => ?_
  unfold fX0_told at h
  refine v_iload_n F dX0_told_0 rfl rfl ?_
  by_cases hq1 : a1 = 0
  · rw [if_pos hq1] at h
    refine v_tableIn F dX0_told_1 hq1 (by decide) (by decide) rfl rfl ?_
    refine v_aload_n F dX0_told_68 rfl rfl ?_
    refine gf_X0_167 F dX0_told_69 hp ?_
    cases h
    cases (show _ = r from K)
    exact v_iret F dX0_told_72
  · rw [if_neg hq1] at h
    by_cases hq2 : a1 = 1
    · rw [if_pos hq2] at h
      refine v_tableIn F dX0_told_1 hq2 (by decide) (by decide) rfl rfl ?_
      refine v_aload_n F dX0_told_73 rfl rfl ?_
      refine gf_X0_20 F dX0_told_74 hp (v := 3) rfl ?_
      refine gf_X0_176 F dX0_told_77 (ob_X0_3 hX hp) ?_
      cases h
      cases (show _ = r from K)
      exact v_iret F dX0_told_80
    · rw [if_neg hq2] at h
      by_cases hq3 : a1 = 2
      · rw [if_pos hq3] at h
        refine v_tableIn F dX0_told_1 hq3 (by decide) (by decide) rfl rfl ?_
        refine v_aload_n F dX0_told_81 rfl rfl ?_
        refine gf_X0_20 F dX0_told_82 hp (v := 3) rfl ?_
        refine gf_X0_189 F dX0_told_85 (ob_X0_3 hX hp) ?_
        cases h
        cases (show _ = r from K)
        exact v_iret F dX0_told_88
      · rw [if_neg hq3] at h
        by_cases hq4 : a1 = 3
        · rw [if_pos hq4] at h
          refine v_tableIn F dX0_told_1 hq4 (by decide) (by decide) rfl rfl ?_
          refine v_aload_n F dX0_told_89 rfl rfl ?_
          refine gf_X0_200 F dX0_told_90 hp ?_
          cases h
          cases (show _ = r from K)
          exact v_iret F dX0_told_93
        · rw [if_neg hq4] at h
          by_cases hq5 : a1 = 4
          · rw [if_pos hq5] at h
            refine v_tableIn F dX0_told_1 hq5 (by decide) (by decide) rfl rfl ?_
            refine v_aload_n F dX0_told_94 rfl rfl ?_
            refine gf_X0_237 F dX0_told_95 hp ?_
            refine v_if_eq F dX0_told_98 rfl (fun hq6 => ?_) (fun hq6 => ?_)
            · rw [if_pos hq6] at h
              refine v_iconst F dX0_told_111 ⟨by decide, by decide⟩ ?_
              cases h
              cases (show _ = r from K)
              exact v_iret F dX0_told_112
            · rw [if_neg hq6] at h
              refine v_aload_n F dX0_told_101 rfl rfl ?_
              obtain ⟨x7, ex7, h⟩ := lv_some h
              obtain ⟨hn9, h⟩ := ck_some h
              refine gf_X0_42 F dX0_told_102 hp ex7 fun hr8 => ?_
              have x7p := hr8.resolve_left hn9
              refine gf_X0_259 F dX0_told_105 x7p ?_
              refine v_goto F dX0_told_108 rfl ?_
              cases h
              cases (show _ = r from K)
              exact v_iret F dX0_told_112
          · rw [if_neg hq5] at h
            by_cases hq10 : a1 = 5
            · rw [if_pos hq10] at h
              refine v_tableIn F dX0_told_1 hq10 (by decide) (by decide) rfl rfl ?_
              refine v_aload_n F dX0_told_113 rfl rfl ?_
              refine gf_X0_262 F dX0_told_114 hp ?_
              cases h
              cases (show _ = r from K)
              exact v_iret F dX0_told_117
            · rw [if_neg hq10] at h
              by_cases hq11 : a1 = 6
              · rw [if_pos hq11] at h
                refine v_tableIn F dX0_told_1 hq11 (by decide) (by decide) rfl rfl ?_
                refine v_aload_n F dX0_told_118 rfl rfl ?_
                refine gf_X0_268 F dX0_told_119 hp ?_
                cases h
                cases (show _ = r from K)
                exact v_iret F dX0_told_122
              · rw [if_neg hq11] at h
                by_cases hq12 : a1 = 7
                · rw [if_pos hq12] at h
                  refine v_tableIn F dX0_told_1 hq12 (by decide) (by decide) rfl rfl ?_
                  refine v_aload_n F dX0_told_123 rfl rfl ?_
                  obtain ⟨x13, hc14, h⟩ := b1_some h
                  refine v_callVv (c := 0) F dX0_told_124 cv_X0_400 rfl (PB.ob hp hX (Nat.le_of_ble_eq_true rfl)) (Nat.le_of_ble_eq_true rfl) rfl (vm_X0_onRoll hp hc14) rfl (rOk.of rfl) ?_
                  cases h
                  cases (show _ = r from K)
                  exact v_iret F dX0_told_127
                · rw [if_neg hq12] at h
                  by_cases hq15 : a1 = 8
                  · rw [if_pos hq15] at h
                    refine v_tableIn F dX0_told_1 hq15 (by decide) (by decide) rfl rfl ?_
                    refine v_aload_n F dX0_told_128 rfl rfl ?_
                    refine gf_X0_271 F dX0_told_129 hp ?_
                    cases h
                    cases (show _ = r from K)
                    exact v_iret F dX0_told_132
                  · rw [if_neg hq15] at h
                    by_cases hq16 : a1 = 9
                    · rw [if_pos hq16] at h
                      refine v_tableIn F dX0_told_1 hq16 (by decide) (by decide) rfl rfl ?_
                      refine v_aload_n F dX0_told_133 rfl rfl ?_
                      refine gf_X0_274 F dX0_told_134 hp ?_
                      cases h
                      cases (show _ = r from K)
                      exact v_iret F dX0_told_137
                    · rw [if_neg hq16] at h
                      by_cases hq17 : a1 = 10
                      · rw [if_pos hq17] at h
                        refine v_tableIn F dX0_told_1 hq17 (by decide) (by decide) rfl rfl ?_
                        refine v_aload_n F dX0_told_138 rfl rfl ?_
                        refine gf_X0_277 F dX0_told_139 hp ?_
                        cases h
                        cases (show _ = r from K)
                        exact v_iret F dX0_told_142
                      · rw [if_neg hq17] at h
                        by_cases hq18 : a1 = 11
                        · rw [if_pos hq18] at h
                          refine v_tableIn F dX0_told_1 hq18 (by decide) (by decide) rfl rfl ?_
                          refine v_aload_n F dX0_told_143 rfl rfl ?_
                          refine gf_X0_160 F dX0_told_144 hp ?_
                          cases h
                          cases (show _ = r from K)
                          exact v_iret F dX0_told_147
                        · rw [if_neg hq18] at h
                          by_cases hq19 : a1 = 12
                          · rw [if_pos hq19] at h
                            refine v_tableIn F dX0_told_1 hq19 (by decide) (by decide) rfl rfl ?_
                            refine v_aload_n F dX0_told_148 rfl rfl ?_
                            refine gf_X0_265 F dX0_told_149 hp ?_
                            refine v_if_eq F dX0_told_152 rfl (fun hq20 => ?_) (fun hq20 => ?_)
                            · rw [if_pos hq20] at h
                              refine v_iconst F dX0_told_159 ⟨by decide, by decide⟩ ?_
                              cases h
                              cases (show _ = r from K)
                              exact v_iret F dX0_told_160
                            · rw [if_neg hq20] at h
                              refine v_iconst F dX0_told_155 ⟨by decide, by decide⟩ ?_
                              refine v_goto F dX0_told_156 rfl ?_
                              cases h
                              cases (show _ = r from K)
                              exact v_iret F dX0_told_160
                          · rw [if_neg hq19] at h
                            refine v_tableOut F dX0_told_1 (by omega) rfl ?_
                            refine v_aload_n F dX0_told_161 rfl rfl ?_
                            refine v_iload_n F dX0_told_162 rfl rfl ?_
                            refine v_callVv (c := 0) F dX0_told_163 cv_X0_674 rfl (PB.ob hp hX (Nat.le_of_ble_eq_true rfl)) (Nat.le_of_ble_eq_true rfl) rfl (vm_X0_more hp) rfl (rOk.of rfl) ?_
                            cases h
                            cases (show _ = r from K)
                            exact v_iret F dX0_told_166
theorem vm_X11_told {w : Wd} {l : Launch} {d m : Dt} {a1 : Int} {r : Int} (hp : PB m 1545 11) (h : fX11_told d a1 = some r) : VM w l WF yX11_told cX11_told 2 (some .int) 1 22 0 0 d m [mA 1545, mI a1] (some (mI r)) d m := by
  obtain ⟨x, h, K⟩ : ∃ x, fX11_told d a1 = some x ∧ x = r := ⟨_, h, rfl⟩
  refine VM.of (L := [mA 1545, mI a1]) (by decide +kernel) rfl (Nat.le_of_ble_eq_true rfl) fun G F _ => v_fact fun _ hX _ _ => ?_
  unfold fX11_told at h
  refine v_iload_n F dX11_told_0 rfl rfl ?_
  by_cases hq1 : a1 = 0
  · rw [if_pos hq1] at h
    refine v_tableIn F dX11_told_1 hq1 (by decide) (by decide) rfl rfl ?_
    refine v_aload_n F dX11_told_108 rfl rfl ?_
    refine gf_X11_17 F dX11_told_109 hp ?_
    cases h
    cases (show _ = r from K)
    exact v_iret F dX11_told_112
  · rw [if_neg hq1] at h
    by_cases hq2 : a1 = 1
    · rw [if_pos hq2] at h
      refine v_tableIn F dX11_told_1 hq2 (by decide) (by decide) rfl rfl ?_
      refine v_aload_n F dX11_told_113 rfl rfl ?_
      refine gf_X11_61 F dX11_told_114 hp ?_
      cases h
      cases (show _ = r from K)
      exact v_iret F dX11_told_117
    · rw [if_neg hq2] at h
      by_cases hq3 : a1 = 2
      · rw [if_pos hq3] at h
        refine v_tableIn F dX11_told_1 hq3 (by decide) (by decide) rfl rfl ?_
        refine v_aload_n F dX11_told_118 rfl rfl ?_
        refine gf_X11_74 F dX11_told_119 hp ?_
        cases h
        cases (show _ = r from K)
        exact v_iret F dX11_told_122
      · rw [if_neg hq3] at h
        by_cases hq4 : a1 = 3
        · rw [if_pos hq4] at h
          refine v_tableIn F dX11_told_1 hq4 (by decide) (by decide) rfl rfl ?_
          refine v_aload_n F dX11_told_123 rfl rfl ?_
          refine gf_X11_92 F dX11_told_124 hp ?_
          cases h
          cases (show _ = r from K)
          exact v_iret F dX11_told_127
        · rw [if_neg hq4] at h
          by_cases hq5 : a1 = 4
          · rw [if_pos hq5] at h
            refine v_tableIn F dX11_told_1 hq5 (by decide) (by decide) rfl rfl ?_
            refine v_aload_n F dX11_told_128 rfl rfl ?_
            refine gf_X11_469 F dX11_told_129 hp ?_
            cases h
            cases (show _ = r from K)
            exact v_iret F dX11_told_132
          · rw [if_neg hq5] at h
            by_cases hq6 : a1 = 5
            · rw [if_pos hq6] at h
              refine v_tableIn F dX11_told_1 hq6 (by decide) (by decide) rfl rfl ?_
              refine v_aload_n F dX11_told_133 rfl rfl ?_
              refine gf_X11_528 F dX11_told_134 hp ?_
              cases h
              cases (show _ = r from K)
              exact v_iret F dX11_told_137
            · rw [if_neg hq6] at h
              by_cases hq7 : a1 = 6
              · rw [if_pos hq7] at h
                refine v_tableIn F dX11_told_1 hq7 (by decide) (by decide) rfl rfl ?_
                refine v_aload_n F dX11_told_138 rfl rfl ?_
                refine gf_X11_534 F dX11_told_139 hp ?_
                cases h
                cases (show _ = r from K)
                exact v_iret F dX11_told_142
              · rw [if_neg hq7] at h
                by_cases hq8 : a1 = 7
                · rw [if_pos hq8] at h
                  refine v_tableIn F dX11_told_1 hq8 (by decide) (by decide) rfl rfl ?_
                  refine v_aload_n F dX11_told_143 rfl rfl ?_
                  obtain ⟨x9, hc10, h⟩ := b1_some h
                  refine v_callVv (c := 11) F dX11_told_144 cv_X11_635 rfl (PB.ob hp hX (Nat.le_of_ble_eq_true rfl)) (Nat.le_of_ble_eq_true rfl) rfl (vm_X11_rowsOn hp hc10) rfl (rOk.of rfl) ?_
                  cases h
                  cases (show _ = r from K)
                  exact v_iret F dX11_told_147
                · rw [if_neg hq8] at h
                  by_cases hq11 : a1 = 8
                  · rw [if_pos hq11] at h
                    refine v_tableIn F dX11_told_1 hq11 (by decide) (by decide) rfl rfl ?_
                    refine v_aload_n F dX11_told_148 rfl rfl ?_
                    refine gf_X11_537 F dX11_told_149 hp ?_
                    cases h
                    cases (show _ = r from K)
                    exact v_iret F dX11_told_152
                  · rw [if_neg hq11] at h
                    by_cases hq12 : a1 = 9
                    · rw [if_pos hq12] at h
                      refine v_tableIn F dX11_told_1 hq12 (by decide) (by decide) rfl rfl ?_
                      refine v_aload_n F dX11_told_153 rfl rfl ?_
                      refine gf_X11_540 F dX11_told_154 hp ?_
                      cases h
                      cases (show _ = r from K)
                      exact v_iret F dX11_told_157
                    · rw [if_neg hq12] at h
                      by_cases hq13 : a1 = 10
                      · rw [if_pos hq13] at h
                        refine v_tableIn F dX11_told_1 hq13 (by decide) (by decide) rfl rfl ?_
                        refine v_aload_n F dX11_told_158 rfl rfl ?_
                        refine gf_X11_543 F dX11_told_159 hp ?_
                        cases h
                        cases (show _ = r from K)
                        exact v_iret F dX11_told_162
                      · rw [if_neg hq13] at h
                        by_cases hq14 : a1 = 11
                        · rw [if_pos hq14] at h
                          refine v_tableIn F dX11_told_1 hq14 (by decide) (by decide) rfl rfl ?_
                          refine v_aload_n F dX11_told_163 rfl rfl ?_
                          refine gf_X11_5 F dX11_told_164 hp ?_
                          cases h
                          cases (show _ = r from K)
                          exact v_iret F dX11_told_167
                        · rw [if_neg hq14] at h
                          by_cases hq15 : a1 = 12
                          · rw [if_pos hq15] at h
                            refine v_tableIn F dX11_told_1 hq15 (by decide) (by decide) rfl rfl ?_
                            refine v_aload_n F dX11_told_168 rfl rfl ?_
                            refine gf_X11_531 F dX11_told_169 hp ?_
                            refine v_if_eq F dX11_told_172 rfl (fun hq16 => ?_) (fun hq16 => ?_)
                            · rw [if_pos hq16] at h
                              refine v_iconst F dX11_told_179 ⟨by decide, by decide⟩ ?_
                              cases h
                              cases (show _ = r from K)
                              exact v_iret F dX11_told_180
                            · rw [if_neg hq16] at h
                              refine v_iconst F dX11_told_175 ⟨by decide, by decide⟩ ?_
                              refine v_goto F dX11_told_176 rfl ?_
                              cases h
                              cases (show _ = r from K)
                              exact v_iret F dX11_told_180
                          · rw [if_neg hq15] at h
                            by_cases hq17 : a1 = 13
                            · rw [if_pos hq17] at h
                              refine v_tableIn F dX11_told_1 hq17 (by decide) (by decide) rfl rfl ?_
                              refine v_aload_n F dX11_told_181 rfl rfl ?_
                              refine gf_X11_558 F dX11_told_182 hp ?_
                              refine v_if_eq F dX11_told_185 rfl (fun hq18 => ?_) (fun hq18 => ?_)
                              · rw [if_pos hq18] at h
                                refine v_iconst F dX11_told_195 ⟨by decide, by decide⟩ ?_
                                cases h
                                cases (show _ = r from K)
                                exact v_iret F dX11_told_196
                              · rw [if_neg hq18] at h
                                refine v_aload_n F dX11_told_188 rfl rfl ?_
                                refine gf_X11_853 F dX11_told_189 hp ?_
                                refine v_goto F dX11_told_192 rfl ?_
                                cases h
                                cases (show _ = r from K)
                                exact v_iret F dX11_told_196
                            · rw [if_neg hq17] at h
                              by_cases hq19 : a1 = 14
                              · rw [if_pos hq19] at h
                                refine v_tableIn F dX11_told_1 hq19 (by decide) (by decide) rfl rfl ?_
                                refine v_aload_n F dX11_told_197 rfl rfl ?_
                                refine gf_X11_558 F dX11_told_198 hp ?_
                                refine v_if_eq F dX11_told_201 rfl (fun hq20 => ?_) (fun hq20 => ?_)
                                · rw [if_pos hq20] at h
                                  refine v_iconst F dX11_told_211 ⟨by decide, by decide⟩ ?_
                                  cases h
                                  cases (show _ = r from K)
                                  exact v_iret F dX11_told_212
                                · rw [if_neg hq20] at h
                                  refine v_aload_n F dX11_told_204 rfl rfl ?_
                                  refine gf_X11_856 F dX11_told_205 hp ?_
                                  refine v_goto F dX11_told_208 rfl ?_
                                  cases h
                                  cases (show _ = r from K)
                                  exact v_iret F dX11_told_212
                              · rw [if_neg hq19] at h
                                by_cases hq21 : a1 = 15
                                · rw [if_pos hq21] at h
                                  refine v_tableIn F dX11_told_1 hq21 (by decide) (by decide) rfl rfl ?_
                                  refine v_aload_n F dX11_told_213 rfl rfl ?_
                                  refine gf_X11_558 F dX11_told_214 hp ?_
                                  refine v_if_eq F dX11_told_217 rfl (fun hq22 => ?_) (fun hq22 => ?_)
                                  · rw [if_pos hq22] at h
                                    refine v_iconst F dX11_told_227 ⟨by decide, by decide⟩ ?_
                                    cases h
                                    cases (show _ = r from K)
                                    exact v_iret F dX11_told_228
                                  · rw [if_neg hq22] at h
                                    refine v_aload_n F dX11_told_220 rfl rfl ?_
                                    refine gf_X11_859 F dX11_told_221 hp ?_
                                    refine v_goto F dX11_told_224 rfl ?_
                                    cases h
                                    cases (show _ = r from K)
                                    exact v_iret F dX11_told_228
                                · rw [if_neg hq21] at h
                                  by_cases hq23 : a1 = 16
                                  · rw [if_pos hq23] at h
                                    refine v_tableIn F dX11_told_1 hq23 (by decide) (by decide) rfl rfl ?_
                                    refine v_aload_n F dX11_told_229 rfl rfl ?_
                                    refine gf_X11_558 F dX11_told_230 hp ?_
                                    refine v_if_eq F dX11_told_233 rfl (fun hq24 => ?_) (fun hq24 => ?_)
                                    · rw [if_pos hq24] at h
                                      refine v_iconst F dX11_told_243 ⟨by decide, by decide⟩ ?_
                                      cases h
                                      cases (show _ = r from K)
                                      exact v_iret F dX11_told_244
                                    · rw [if_neg hq24] at h
                                      refine v_aload_n F dX11_told_236 rfl rfl ?_
                                      refine gf_X11_817 F dX11_told_237 hp ?_
                                      refine v_goto F dX11_told_240 rfl ?_
                                      cases h
                                      cases (show _ = r from K)
                                      exact v_iret F dX11_told_244
                                  · rw [if_neg hq23] at h
                                    by_cases hq25 : a1 = 17
                                    · rw [if_pos hq25] at h
                                      refine v_tableIn F dX11_told_1 hq25 (by decide) (by decide) rfl rfl ?_
                                      refine v_aload_n F dX11_told_245 rfl rfl ?_
                                      refine gf_X11_558 F dX11_told_246 hp ?_
                                      refine v_if_eq F dX11_told_249 rfl (fun hq26 => ?_) (fun hq26 => ?_)
                                      · rw [if_pos hq26] at h
                                        refine v_iconst F dX11_told_259 ⟨by decide, by decide⟩ ?_
                                        cases h
                                        cases (show _ = r from K)
                                        exact v_iret F dX11_told_260
                                      · rw [if_neg hq26] at h
                                        refine v_aload_n F dX11_told_252 rfl rfl ?_
                                        refine gf_X11_838 F dX11_told_253 hp ?_
                                        refine v_goto F dX11_told_256 rfl ?_
                                        cases h
                                        cases (show _ = r from K)
                                        exact v_iret F dX11_told_260
                                    · rw [if_neg hq25] at h
                                      by_cases hq27 : a1 = 18
                                      · rw [if_pos hq27] at h
                                        refine v_tableIn F dX11_told_1 hq27 (by decide) (by decide) rfl rfl ?_
                                        refine v_aload_n F dX11_told_261 rfl rfl ?_
                                        refine gf_X11_564 F dX11_told_262 hp ?_
                                        cases h
                                        cases (show _ = r from K)
                                        exact v_iret F dX11_told_265
                                      · rw [if_neg hq27] at h
                                        by_cases hq28 : a1 = 19
                                        · rw [if_pos hq28] at h
                                          refine v_tableIn F dX11_told_1 hq28 (by decide) (by decide) rfl rfl ?_
                                          refine v_aload_n F dX11_told_266 rfl rfl ?_
                                          refine gf_X11_1272 F dX11_told_267 hp ?_
                                          cases h
                                          cases (show _ = r from K)
                                          exact v_iret F dX11_told_270
                                        · rw [if_neg hq28] at h
                                          by_cases hq29 : a1 = 20
                                          · rw [if_pos hq29] at h
                                            refine v_tableIn F dX11_told_1 hq29 (by decide) (by decide) rfl rfl ?_
                                            refine v_aload_n F dX11_told_271 rfl rfl ?_
                                            refine gf_X11_561 F dX11_told_272 hp ?_
                                            refine v_if_eq F dX11_told_275 rfl (fun hq30 => ?_) (fun hq30 => ?_)
                                            · rw [if_pos hq30] at h
                                              refine v_iconst F dX11_told_285 ⟨by decide, by decide⟩ ?_
                                              cases h
                                              cases (show _ = r from K)
                                              exact v_iret F dX11_told_286
                                            · rw [if_neg hq30] at h
                                              refine v_aload_n F dX11_told_278 rfl rfl ?_
                                              refine gf_X11_1234 F dX11_told_279 hp ?_
                                              refine v_goto F dX11_told_282 rfl ?_
                                              cases h
                                              cases (show _ = r from K)
                                              exact v_iret F dX11_told_286
                                          · rw [if_neg hq29] at h
                                            by_cases hq31 : a1 = 21
                                            · rw [if_pos hq31] at h
                                              refine v_tableIn F dX11_told_1 hq31 (by decide) (by decide) rfl rfl ?_
                                              refine v_aload_n F dX11_told_287 rfl rfl ?_
                                              refine gf_X11_561 F dX11_told_288 hp ?_
                                              refine v_if_eq F dX11_told_291 rfl (fun hq32 => ?_) (fun hq32 => ?_)
                                              · rw [if_pos hq32] at h
                                                refine v_iconst F dX11_told_301 ⟨by decide, by decide⟩ ?_
                                                cases h
                                                cases (show _ = r from K)
                                                exact v_iret F dX11_told_302
                                              · rw [if_neg hq32] at h
                                                refine v_aload_n F dX11_told_294 rfl rfl ?_
                                                refine gf_X11_1237 F dX11_told_295 hp ?_
                                                refine v_goto F dX11_told_298 rfl ?_
                                                cases h
                                                cases (show _ = r from K)
                                                exact v_iret F dX11_told_302
                                            · rw [if_neg hq31] at h
                                              by_cases hq33 : a1 = 22
                                              · rw [if_pos hq33] at h
                                                refine v_tableIn F dX11_told_1 hq33 (by decide) (by decide) rfl rfl ?_
                                                refine v_aload_n F dX11_told_303 rfl rfl ?_
                                                refine gf_X11_561 F dX11_told_304 hp ?_
                                                refine v_if_eq F dX11_told_307 rfl (fun hq34 => ?_) (fun hq34 => ?_)
                                                · rw [if_pos hq34] at h
                                                  refine v_iconst F dX11_told_317 ⟨by decide, by decide⟩ ?_
                                                  cases h
                                                  cases (show _ = r from K)
                                                  exact v_iret F dX11_told_318
                                                · rw [if_neg hq34] at h
                                                  refine v_aload_n F dX11_told_310 rfl rfl ?_
                                                  refine gf_X11_1240 F dX11_told_311 hp ?_
                                                  refine v_goto F dX11_told_314 rfl ?_
                                                  cases h
                                                  cases (show _ = r from K)
                                                  exact v_iret F dX11_told_318
                                              · rw [if_neg hq33] at h
                                                refine v_tableOut F dX11_told_1 (by omega) rfl ?_
                                                refine v_bipush F dX11_told_319 rfl ⟨by decide, by decide⟩ ?_
                                                cases h
                                                cases (show _ = r from K)
                                                exact v_iret F dX11_told_321
