set_option maxRecDepth 100000
set_option maxHeartbeats 4000000
theorem fX8_ends_35_ok {w : Wd} {l : Launch} {G : Cx} {d m dd : Dt} {o : Int} {d' : Dt} {r : Int} {x : (Dt × Int)} (F : Fx w G cX8_ends RX8 2 (some .boolean) { frames := 3, cells := 0, slots := 0, locals := 70 }) (hX : WF dd m) (hp : PB m o 8) (h : fX8_ends_35 d o = some x) (K : (fun q => q = (d', r)) x) : V w l WF G (QM w G WF (some (mI r)) d' m 0 0) d m 0 0 35 [mA o, mU] [] := by
  unfold fX8_ends_35 at h
  refine v_aload_n F dX8_ends_35 rfl rfl ?_
  refine v_lconst0 F dX8_ends_36 ?_
  obtain ⟨d5, x7, hc6, h⟩ := b2_some h
  refine v_callVv (c := 8) F dX8_ends_37 cv_X8_227 rfl (PB.ob hp hX (Nat.le_of_ble_eq_true rfl)) (Nat.le_of_ble_eq_true rfl) rfl (vm_X8_electAll hp hc6) rfl (rOk.of rfl) ?_
  refine v_istore_n F dX8_ends_40 rfl (Nat.le_of_ble_eq_true rfl) (L' := [mA o, mI x7]) rfl ?_
  refine v_iconst F dX8_ends_41 ⟨by decide, by decide⟩ ?_
  cases h
  cases (show _ = (d', r) from K)
  exact v_zret F (Or.inr rfl) dX8_ends_42
theorem vm_X8_ends {w : Wd} {l : Launch} {d m : Dt} {o : Int} {d' : Dt} {r : Int} (hp : PB m o 8) (h : fX8_ends d o = some (d', r)) : VM w l WF yX8_ends cX8_ends 2 (some .boolean) 3 70 0 0 d m [mA o] (some (mI r)) d' m := by
  obtain ⟨x, h, K⟩ : ∃ x, fX8_ends d o = some x ∧ x = (d', r) := ⟨_, h, rfl⟩
  refine VM.of (L := [mA o, mU]) (by decide +kernel) rfl (Nat.le_of_ble_eq_true rfl) fun G F _ => v_fact fun _ hX _ _ => ?_
  unfold fX8_ends at h
  refine v_aload_n F dX8_ends_0 rfl rfl ?_
  refine gf_X8_167 F dX8_ends_1 hp ?_
  refine v_aload_n F dX8_ends_4 rfl rfl ?_
  obtain ⟨x1, ex1, h⟩ := lv_some h
  obtain ⟨hn3, h⟩ := ck_some h
  refine gf_X8_131 F dX8_ends_5 hp ex1 fun hr2 => ?_
  have x1p := hr2.resolve_left hn3
  refine gf_X8_185 F dX8_ends_8 x1p ?_
  refine v_icmp_ge F dX8_ends_11 rfl (fun hq4 => ?_) (fun hq4 => ?_)
  · rw [if_pos hq4] at h
    exact fX8_ends_35_ok F hX hp h K
  · rw [if_neg hq4] at h
    refine v_aload_n F dX8_ends_14 rfl rfl ?_
    refine gf_X8_167 F dX8_ends_15 hp ?_
    refine v_aload_n F dX8_ends_18 rfl rfl ?_
    obtain ⟨x8, hc9, h⟩ := b1_some h
    refine v_callVv (c := 8) F dX8_ends_19 cv_X8_223 rfl (PB.ob hp hX (Nat.le_of_ble_eq_true rfl)) (Nat.le_of_ble_eq_true rfl) rfl (vm_X8_inMany hp hc9) rfl (rOk.of rfl) ?_
    refine v_iadd F dX8_ends_22 ?_
    refine v_aload_n F dX8_ends_23 rfl rfl ?_
    obtain ⟨x10, ex10, h⟩ := lv_some h
    obtain ⟨hn12, h⟩ := ck_some h
    refine gf_X8_131 F dX8_ends_24 hp ex10 fun hr11 => ?_
    have x10p := hr11.resolve_left hn12
    refine gf_X8_185 F dX8_ends_27 x10p ?_
    refine v_icmp_le F dX8_ends_30 rfl (fun hq13 => ?_) (fun hq13 => ?_)
    · rw [if_pos hq13] at h
      exact fX8_ends_35_ok F hX hp h K
    · rw [if_neg hq13] at h
      refine v_iconst F dX8_ends_33 ⟨by decide, by decide⟩ ?_
      cases h
      cases (show _ = (d', r) from K)
      exact v_zret F (Or.inl rfl) dX8_ends_34
def fX8_surplus_4P (w : Wd) (l : Launch) (G : Cx) (Q : State → Prop) (m : Dt) (d : Dt) (o : Int) (s : Int × Int) : Prop := V w l WF G Q d m 0 0 4 [mA o, mL (s.1), mU, mI (s.2)] []
theorem fX8_surplus_4f_ok {w : Wd} {l : Launch} {G : Cx} {d m dd : Dt} {o : Int} {r : Int} {s : Int × Int} {x : ((Int × Int) ⊕ Int)} (F : Fx w G cX8_surplus RX8 4 (some .long) { frames := 1, cells := 0, slots := 0, locals := 23 }) (hX : WF dd m) (hp : PB m o 8) (h : fX8_surplus_4f d o s = some x) (K : (Sum.elim (fX8_surplus_4P w l G (QM w G WF (some (mL r)) d m 0 0) m d o) (fun q => q = r)) x) : V w l WF G (QM w G WF (some (mL r)) d m 0 0) d m 0 0 4 [mA o, mL (s.1), mU, mI (s.2)] [] := by
  obtain ⟨v1, v3⟩ := s
  unfold fX8_surplus_4f at h
  dsimp only at h
  refine v_iload_n F dX8_surplus_4 rfl rfl ?_
  refine v_aload_n F dX8_surplus_5 rfl rfl ?_
  refine gf_X8_167 F dX8_surplus_6 hp ?_
  refine v_icmp_ge F dX8_surplus_9 rfl (fun hq1 => ?_) (fun hq1 => ?_)
  · rw [if_pos hq1] at h
    obtain ⟨z, hu, ez⟩ := up_some h
    clear h
    subst ez
    have h := hu
    clear hu
    refine v_lload_n F dX8_surplus_41 rfl rfl ?_
    cases h
    cases (show _ = r from K)
    exact v_lret F dX8_surplus_42
  · rw [if_neg hq1] at h
    refine v_lload_n F dX8_surplus_12 rfl rfl ?_
    refine v_lconst0 F dX8_surplus_13 ?_
    refine v_aload_n F dX8_surplus_14 rfl rfl ?_
    refine gf_X8_33 F dX8_surplus_15 hp (v := (o + 126)) rfl ?_
    refine v_aload_n F dX8_surplus_18 rfl rfl ?_
    refine gf_X8_48 F dX8_surplus_19 hp (v := (o + 170)) rfl ?_
    refine v_iload_n F dX8_surplus_22 rfl rfl ?_
    obtain ⟨hi2, h⟩ := ck_some h
    refine v_iald F dX8_surplus_23 (ar_X8_18 hX hp) hi2 ?_
    obtain ⟨x3, ex3, h⟩ := lv_some h
    refine v_nI ex3 ?_
    obtain ⟨hi4, h⟩ := ck_some h
    refine v_lald F dX8_surplus_24 (ar_X8_13 hX hp) hi4 ?_
    refine v_aload_n F dX8_surplus_25 rfl rfl ?_
    refine gf_X8_280 F dX8_surplus_26 hp ?_
    refine v_lsub F dX8_surplus_29 ?_
    refine v_callSv F dX8_surplus_30 cs_X8_331 rfl (vm_J9_max_2) rfl (rOk.of rfl) ?_
    refine v_ladd F dX8_surplus_33 ?_
    obtain ⟨x5, ex5, h⟩ := lv_some h
    refine v_nL ex5 ?_
    refine v_lstore_n F dX8_surplus_34 rfl (Nat.le_of_ble_eq_true rfl) (L' := [mA o, mL x5, mU, mI v3]) rfl ?_
    obtain ⟨x6, ex6, h⟩ := lv_some h
    refine v_iincN F dX8_surplus_35 (Nat.le_of_ble_eq_true rfl) rfl ex6 (L' := [mA o, mL x5, mU, mI x6]) rfl ?_
    refine v_goto F dX8_surplus_38 rfl ?_
    cases h
    exact K
theorem fX8_surplus_4_ok {w : Wd} {l : Launch} {G : Cx} {d m dd : Dt} {o v1 v3 : Int} {r : Int} {x : Int} (F : Fx w G cX8_surplus RX8 4 (some .long) { frames := 1, cells := 0, slots := 0, locals := 23 }) (hX : WF dd m) (hp : PB m o 8) (h : fX8_surplus_4 d o v1 v3 = some x) (K : (fun q => q = r) x) : V w l WF G (QM w G WF (some (mL r)) d m 0 0) d m 0 0 4 [mA o, mL v1, mU, mI v3] [] := by
  unfold fX8_surplus_4 at h
  exact loop_ok (P := fX8_surplus_4P w l G (QM w G WF (some (mL r)) d m 0 0) m d o) (fun s x hx h1 h2 => fX8_surplus_4f_ok F hX hp hx (by
    cases x with
    | inl s' => exact h1 s' rfl
    | inr z => cases h2 z rfl; exact K)) h
theorem vm_X8_surplus {w : Wd} {l : Launch} {d m : Dt} {o : Int} {r : Int} (hp : PB m o 8) (h : fX8_surplus d o = some r) : VM w l WF yX8_surplus cX8_surplus 4 (some .long) 1 23 0 0 d m [mA o] (some (mL r)) d m := by
  obtain ⟨x, h, K⟩ : ∃ x, fX8_surplus d o = some x ∧ x = r := ⟨_, h, rfl⟩
  refine VM.of (L := [mA o, mU, mU, mU]) (by decide +kernel) rfl (Nat.le_of_ble_eq_true rfl) fun G F _ => v_fact fun _ hX _ _ => ?_
  unfold fX8_surplus at h
  refine v_lconst0 F dX8_surplus_0 ?_
  refine v_lstore_n F dX8_surplus_1 rfl (Nat.le_of_ble_eq_true rfl) (L' := [mA o, mL 0, mU, mU]) rfl ?_
  refine v_iconst F dX8_surplus_2 ⟨by decide, by decide⟩ ?_
  refine v_istore_n F dX8_surplus_3 rfl (Nat.le_of_ble_eq_true rfl) (L' := [mA o, mL 0, mU, mI 0]) rfl ?_
  exact fX8_surplus_4_ok F hX hp h K
def fX8_fewestNow_4P (w : Wd) (l : Launch) (G : Cx) (Q : State → Prop) (m : Dt) (d : Dt) (o : Int) (s : Int × Int) : Prop := V w l WF G Q d m 0 0 4 [mA o, mI (s.1), mI (s.2), mU] []
theorem fX8_fewestNow_4f_ok {w : Wd} {l : Launch} {G : Cx} {d m dd : Dt} {o : Int} {r : Int} {s : Int × Int} {x : ((Int × Int) ⊕ Int)} (F : Fx w G cX8_fewestNow RX8 4 (some .int) { frames := 1, cells := 0, slots := 0, locals := 21 }) (hX : WF dd m) (hp : PB m o 8) (h : fX8_fewestNow_4f d o s = some x) (K : (Sum.elim (fX8_fewestNow_4P w l G (QM w G WF (some (mI r)) d m 0 0) m d o) (fun q => q = r)) x) : V w l WF G (QM w G WF (some (mI r)) d m 0 0) d m 0 0 4 [mA o, mI (s.1), mI (s.2), mU] [] := by
  obtain ⟨v1, v2⟩ := s
  unfold fX8_fewestNow_4f at h
  dsimp only at h
  refine v_iload_n F dX8_fewestNow_4 rfl rfl ?_
  refine v_aload_n F dX8_fewestNow_5 rfl rfl ?_
  refine gf_X8_148 F dX8_fewestNow_6 hp ?_
  refine v_icmp_ge F dX8_fewestNow_9 rfl (fun hq1 => ?_) (fun hq1 => ?_)
  · rw [if_pos hq1] at h
    obtain ⟨z, hu, ez⟩ := up_some h
    clear h
    subst ez
    have h := hu
    clear hu
    refine v_iload_n F dX8_fewestNow_59 rfl rfl ?_
    cases h
    cases (show _ = r from K)
    exact v_iret F dX8_fewestNow_60
  · rw [if_neg hq1] at h
    refine v_aload_n F dX8_fewestNow_12 rfl rfl ?_
    obtain ⟨x2, ex2, h⟩ := lv_some h
    obtain ⟨hn4, h⟩ := ck_some h
    refine gf_X8_135 F dX8_fewestNow_13 hp ex2 fun hr3 => ?_
    have x2p := hr3.resolve_left hn4
    refine gf_X8_212 F dX8_fewestNow_16 x2p (v := (x2 + 6)) rfl ?_
    refine v_iload_n F dX8_fewestNow_19 rfl rfl ?_
    obtain ⟨hi5, h⟩ := ck_some h
    refine v_iald F dX8_fewestNow_20 (ar_X9_7 hX x2p) hi5 ?_
    obtain ⟨x6, ex6, h⟩ := lv_some h
    refine v_nI ex6 ?_
    refine v_istore_n F dX8_fewestNow_21 rfl (Nat.le_of_ble_eq_true rfl) (L' := [mA o, mI v1, mI v2, mI x6]) rfl ?_
    refine v_aload_n F dX8_fewestNow_22 rfl rfl ?_
    refine v_iload_n F dX8_fewestNow_23 rfl rfl ?_
    obtain ⟨x7, hc8, h⟩ := b1_some h
    refine v_callVv (c := 8) F dX8_fewestNow_24 cv_X8_209 rfl (PB.ob hp hX (Nat.le_of_ble_eq_true rfl)) (Nat.le_of_ble_eq_true rfl) rfl (vm_X8_isIn hp hc8) rfl (rOk.of rfl) ?_
    refine v_if_eq F dX8_fewestNow_27 rfl (fun hq9 => ?_) (fun hq9 => ?_)
    · rw [if_pos hq9] at h
      obtain ⟨x10, ex10, h⟩ := lv_some h
      refine v_iincN F dX8_fewestNow_53 (Nat.le_of_ble_eq_true rfl) rfl ex10 (L' := [mA o, mI v1, mI x10, mI x6]) rfl ?_
      refine v_goto F dX8_fewestNow_56 rfl ?_
      cases h
      refine v_fgt (L' := [mA o, mI v1, mI x10, mU]) ⟨Or.inl rfl, Or.inl rfl, Or.inl rfl, Or.inr rfl, trivial⟩ ?_
      exact K
    · rw [if_neg hq9] at h
      refine v_iload_n F dX8_fewestNow_30 rfl rfl ?_
      refine v_iconst F dX8_fewestNow_31 ⟨by decide, by decide⟩ ?_
      refine v_icmp_eq F dX8_fewestNow_32 rfl (fun hq11 => ?_) (fun hq11 => ?_)
      · rw [if_pos hq11] at h
        refine v_iload_n F dX8_fewestNow_51 rfl rfl ?_
        refine v_istore_n F dX8_fewestNow_52 rfl (Nat.le_of_ble_eq_true rfl) (L' := [mA o, mI x6, mI v2, mI x6]) rfl ?_
        obtain ⟨x12, ex12, h⟩ := lv_some h
        refine v_iincN F dX8_fewestNow_53 (Nat.le_of_ble_eq_true rfl) rfl ex12 (L' := [mA o, mI x6, mI x12, mI x6]) rfl ?_
        refine v_goto F dX8_fewestNow_56 rfl ?_
        cases h
        refine v_fgt (L' := [mA o, mI x6, mI x12, mU]) ⟨Or.inl rfl, Or.inl rfl, Or.inl rfl, Or.inr rfl, trivial⟩ ?_
        exact K
      · rw [if_neg hq11] at h
        refine v_aload_n F dX8_fewestNow_35 rfl rfl ?_
        refine gf_X8_33 F dX8_fewestNow_36 hp (v := (o + 126)) rfl ?_
        refine v_iload_n F dX8_fewestNow_39 rfl rfl ?_
        obtain ⟨hi13, h⟩ := ck_some h
        refine v_lald F dX8_fewestNow_40 (ar_X8_13 hX hp) hi13 ?_
        refine v_aload_n F dX8_fewestNow_41 rfl rfl ?_
        refine gf_X8_33 F dX8_fewestNow_42 hp (v := (o + 126)) rfl ?_
        refine v_iload_n F dX8_fewestNow_45 rfl rfl ?_
        obtain ⟨hi14, h⟩ := ck_some h
        refine v_lald F dX8_fewestNow_46 (ar_X8_13 hX hp) hi14 ?_
        refine v_lcmp F dX8_fewestNow_47 ?_
        refine v_if_gt F dX8_fewestNow_48 rfl (fun hq15 => ?_) (fun hq15 => ?_)
        · rw [if_pos hq15] at h
          obtain ⟨x16, ex16, h⟩ := lv_some h
          refine v_iincN F dX8_fewestNow_53 (Nat.le_of_ble_eq_true rfl) rfl ex16 (L' := [mA o, mI v1, mI x16, mI x6]) rfl ?_
          refine v_goto F dX8_fewestNow_56 rfl ?_
          cases h
          refine v_fgt (L' := [mA o, mI v1, mI x16, mU]) ⟨Or.inl rfl, Or.inl rfl, Or.inl rfl, Or.inr rfl, trivial⟩ ?_
          exact K
        · rw [if_neg hq15] at h
          refine v_iload_n F dX8_fewestNow_51 rfl rfl ?_
          refine v_istore_n F dX8_fewestNow_52 rfl (Nat.le_of_ble_eq_true rfl) (L' := [mA o, mI x6, mI v2, mI x6]) rfl ?_
          obtain ⟨x17, ex17, h⟩ := lv_some h
          refine v_iincN F dX8_fewestNow_53 (Nat.le_of_ble_eq_true rfl) rfl ex17 (L' := [mA o, mI x6, mI x17, mI x6]) rfl ?_
          refine v_goto F dX8_fewestNow_56 rfl ?_
          cases h
          refine v_fgt (L' := [mA o, mI x6, mI x17, mU]) ⟨Or.inl rfl, Or.inl rfl, Or.inl rfl, Or.inr rfl, trivial⟩ ?_
          exact K
theorem fX8_fewestNow_4_ok {w : Wd} {l : Launch} {G : Cx} {d m dd : Dt} {o v1 v2 : Int} {r : Int} {x : Int} (F : Fx w G cX8_fewestNow RX8 4 (some .int) { frames := 1, cells := 0, slots := 0, locals := 21 }) (hX : WF dd m) (hp : PB m o 8) (h : fX8_fewestNow_4 d o v1 v2 = some x) (K : (fun q => q = r) x) : V w l WF G (QM w G WF (some (mI r)) d m 0 0) d m 0 0 4 [mA o, mI v1, mI v2, mU] [] := by
  unfold fX8_fewestNow_4 at h
  exact loop_ok (P := fX8_fewestNow_4P w l G (QM w G WF (some (mI r)) d m 0 0) m d o) (fun s x hx h1 h2 => fX8_fewestNow_4f_ok F hX hp hx (by
    cases x with
    | inl s' => exact h1 s' rfl
    | inr z => cases h2 z rfl; exact K)) h
theorem vm_X8_fewestNow {w : Wd} {l : Launch} {d m : Dt} {o : Int} {r : Int} (hp : PB m o 8) (h : fX8_fewestNow d o = some r) : VM w l WF yX8_fewestNow cX8_fewestNow 4 (some .int) 1 21 0 0 d m [mA o] (some (mI r)) d m := by
  obtain ⟨x, h, K⟩ : ∃ x, fX8_fewestNow d o = some x ∧ x = r := ⟨_, h, rfl⟩
  refine VM.of (L := [mA o, mU, mU, mU]) (by decide +kernel) rfl (Nat.le_of_ble_eq_true rfl) fun G F _ => v_fact fun _ hX _ _ => ?_
  unfold fX8_fewestNow at h
  refine v_iconst F dX8_fewestNow_0 ⟨by decide, by decide⟩ ?_
  refine v_istore_n F dX8_fewestNow_1 rfl (Nat.le_of_ble_eq_true rfl) (L' := [mA o, mI (-1), mU, mU]) rfl ?_
  refine v_iconst F dX8_fewestNow_2 ⟨by decide, by decide⟩ ?_
  refine v_istore_n F dX8_fewestNow_3 rfl (Nat.le_of_ble_eq_true rfl) (L' := [mA o, mI (-1), mI 0, mU]) rfl ?_
  exact fX8_fewestNow_4_ok F hX hp h K
def fX8_byKeeping_20P (w : Wd) (l : Launch) (G : Cx) (Q : State → Prop) (m : Dt) (o : Int) (s : Dt × Int × Int) : Prop := V w l WF G Q s.1 m 0 0 20 [mA o, mL (s.2.1), mU, mI (s.2.2), mU, mU, mU, mU, mU, mU] []
def fX8_byKeeping_142P (w : Wd) (l : Launch) (G : Cx) (Q : State → Prop) (m : Dt) (o v1 v3 : Int) (s : Dt × Int) : Prop := V w l WF G Q s.1 m 0 0 142 [mA o, mL v1, mU, mI v3, mU, mU, mU, mU, mI (s.2), mU] []
theorem fX8_byKeeping_219_ok {w : Wd} {l : Launch} {G : Cx} {d m dd : Dt} {o v1 v3 v8 s1 s2 : Int} {d' : Dt} {x : ((Dt × Int) ⊕ ((Dt × Int × Int) ⊕ Dt))} (F : Fx w G cX8_byKeeping RX8 10 none { frames := 4, cells := 0, slots := 0, locals := 91 }) (hX : WF dd m) (hp : PB m o 8) (h : fX8_byKeeping_219 d o v1 v3 v8 s1 s2 = some x) (K : (Sum.elim (fX8_byKeeping_142P w l G (QM w G WF none d' m 0 0) m o v1 v3) (Sum.elim (fX8_byKeeping_20P w l G (QM w G WF none d' m 0 0) m o) (fun q => q = d'))) x) : V w l WF G (QM w G WF none d' m 0 0) d m 0 0 219 [mA o, mL v1, mU, mI v3, mU, mU, mU, mU, mI v8, mU] [mL s2, mI s1, mA (o + 188)] := by
  unfold fX8_byKeeping_219 at h
  obtain ⟨hi30, h⟩ := ck_some h
  obtain ⟨d31, ed31, h⟩ := sd_some h
  refine v_last F dX8_byKeeping_219 (ar_X8_31 hX hp) hi30 ?_
  refine v_nD ed31 ?_
  obtain ⟨x32, ex32, h⟩ := lv_some h
  refine v_iincN F dX8_byKeeping_220 (Nat.le_of_ble_eq_true rfl) rfl ex32 (L' := [mA o, mL v1, mU, mI v3, mU, mU, mU, mU, mI x32, mU]) rfl ?_
  refine v_goto F dX8_byKeeping_223 rfl ?_
  cases h
  exact K
theorem fX8_byKeeping_142f_ok {w : Wd} {l : Launch} {G : Cx} {m dd : Dt} {o v1 v3 : Int} {d' : Dt} {s : Dt × Int} {x : ((Dt × Int) ⊕ ((Dt × Int × Int) ⊕ Dt))} (F : Fx w G cX8_byKeeping RX8 10 none { frames := 4, cells := 0, slots := 0, locals := 91 }) (hX : WF dd m) (hp : PB m o 8) (h : fX8_byKeeping_142f o v1 v3 s = some x) (K : (Sum.elim (fX8_byKeeping_142P w l G (QM w G WF none d' m 0 0) m o v1 v3) (Sum.elim (fX8_byKeeping_20P w l G (QM w G WF none d' m 0 0) m o) (fun q => q = d'))) x) : V w l WF G (QM w G WF none d' m 0 0) s.1 m 0 0 142 [mA o, mL v1, mU, mI v3, mU, mU, mU, mU, mI (s.2), mU] [] := by
  obtain ⟨d, v8⟩ := s
  unfold fX8_byKeeping_142f at h
  dsimp only at h
  refine v_iload F dX8_byKeeping_142 rfl ?_
  refine v_aload_n F dX8_byKeeping_144 rfl rfl ?_
  refine gf_X8_167 F dX8_byKeeping_145 hp ?_
  refine v_icmp_ge F dX8_byKeeping_148 rfl (fun hq22 => ?_) (fun hq22 => ?_)
  · rw [if_pos hq22] at h
    obtain ⟨z, hu, ez⟩ := up_some h
    clear h
    subst ez
    have h := hu
    clear hu
    refine v_goto F dX8_byKeeping_226 rfl ?_
    cases h
    refine v_fgt (L' := [mA o, mL v1, mU, mI v3, mU, mU, mU, mU, mU, mU]) ⟨Or.inl rfl, Or.inl rfl, Or.inl rfl, Or.inl rfl, Or.inl rfl, Or.inl rfl, Or.inl rfl, Or.inl rfl, Or.inr rfl, Or.inl rfl, trivial⟩ ?_
    exact K
  · rw [if_neg hq22] at h
    refine v_iload_n F dX8_byKeeping_151 rfl rfl ?_
    refine v_if_eq F dX8_byKeeping_152 rfl (fun hq23 => ?_) (fun hq23 => ?_)
    · rw [if_pos hq23] at h
      obtain ⟨z, hu, ez⟩ := up_some h
      clear h
      subst ez
      have h := hu
      clear hu
      refine v_goto F dX8_byKeeping_226 rfl ?_
      cases h
      refine v_fgt (L' := [mA o, mL v1, mU, mI v3, mU, mU, mU, mU, mU, mU]) ⟨Or.inl rfl, Or.inl rfl, Or.inl rfl, Or.inl rfl, Or.inl rfl, Or.inl rfl, Or.inl rfl, Or.inl rfl, Or.inr rfl, Or.inl rfl, trivial⟩ ?_
      exact K
    · rw [if_neg hq23] at h
      refine v_aload_n F dX8_byKeeping_155 rfl rfl ?_
      refine gf_X8_48 F dX8_byKeeping_156 hp (v := (o + 170)) rfl ?_
      refine v_iload F dX8_byKeeping_159 rfl ?_
      obtain ⟨hi24, h⟩ := ck_some h
      refine v_iald F dX8_byKeeping_161 (ar_X8_18 hX hp) hi24 ?_
      obtain ⟨x25, ex25, h⟩ := lv_some h
      refine v_nI ex25 ?_
      refine v_istore F dX8_byKeeping_162 (Nat.le_of_ble_eq_true rfl) (L' := [mA o, mL v1, mU, mI v3, mU, mU, mU, mU, mI v8, mI x25]) rfl ?_
      refine v_aload_n F dX8_byKeeping_164 rfl rfl ?_
      refine gf_X8_75 F dX8_byKeeping_165 hp (v := (o + 188)) rfl ?_
      refine v_iload F dX8_byKeeping_168 rfl ?_
      refine v_aload_n F dX8_byKeeping_170 rfl rfl ?_
      refine gf_X8_33 F dX8_byKeeping_171 hp (v := (o + 126)) rfl ?_
      refine v_iload F dX8_byKeeping_174 rfl ?_
      obtain ⟨hi26, h⟩ := ck_some h
      refine v_lald F dX8_byKeeping_176 (ar_X8_13 hX hp) hi26 ?_
      refine v_lconst0 F dX8_byKeeping_177 ?_
      refine v_lcmp F dX8_byKeeping_178 ?_
      refine v_if_ne F dX8_byKeeping_179 rfl (fun hq27 => ?_) (fun hq27 => ?_)
      · rw [if_neg hq27] at h
        refine v_ldc2 (n := 100000000) F dX8_byKeeping_192 q2204 rfl ⟨by decide, by decide⟩ ?_
        refine v_aload_n F dX8_byKeeping_195 rfl rfl ?_
        refine gf_X8_75 F dX8_byKeeping_196 hp (v := (o + 188)) rfl ?_
        refine v_iload F dX8_byKeeping_199 rfl ?_
        refine v_lald F dX8_byKeeping_201 (ar_X8_31 hX hp) hi26 ?_
        refine v_aload_n F dX8_byKeeping_202 rfl rfl ?_
        refine gf_X8_280 F dX8_byKeeping_203 hp ?_
        refine v_aload_n F dX8_byKeeping_206 rfl rfl ?_
        refine gf_X8_33 F dX8_byKeeping_207 hp (v := (o + 126)) rfl ?_
        refine v_iload F dX8_byKeeping_210 rfl ?_
        refine v_lald F dX8_byKeeping_212 (ar_X8_13 hX hp) hi26 ?_
        obtain ⟨x28, hc29, h⟩ := b1_some h
        refine v_callSv F dX8_byKeeping_213 cs_X8_327 rfl (vm_X8_up hc29) rfl (rOk.of rfl) ?_
        refine v_callSv F dX8_byKeeping_216 cs_X8_353 rfl (vm_J9_min_2) rfl (rOk.of rfl) ?_
        refine v_fgt (L' := [mA o, mL v1, mU, mI v3, mU, mU, mU, mU, mI v8, mU]) ⟨Or.inl rfl, Or.inl rfl, Or.inl rfl, Or.inl rfl, Or.inl rfl, Or.inl rfl, Or.inl rfl, Or.inl rfl, Or.inl rfl, Or.inr rfl, trivial⟩ ?_
        exact fX8_byKeeping_219_ok F hX hp h K
      · rw [if_pos hq27] at h
        refine v_aload_n F dX8_byKeeping_182 rfl rfl ?_
        refine gf_X8_75 F dX8_byKeeping_183 hp (v := (o + 188)) rfl ?_
        refine v_iload F dX8_byKeeping_186 rfl ?_
        refine v_lald F dX8_byKeeping_188 (ar_X8_31 hX hp) hi26 ?_
        refine v_goto F dX8_byKeeping_189 rfl ?_
        refine v_fgt (L' := [mA o, mL v1, mU, mI v3, mU, mU, mU, mU, mI v8, mU]) ⟨Or.inl rfl, Or.inl rfl, Or.inl rfl, Or.inl rfl, Or.inl rfl, Or.inl rfl, Or.inl rfl, Or.inl rfl, Or.inl rfl, Or.inr rfl, trivial⟩ ?_
        exact fX8_byKeeping_219_ok F hX hp h K
theorem fX8_byKeeping_142_ok {w : Wd} {l : Launch} {G : Cx} {d m dd : Dt} {o v1 v3 v8 : Int} {d' : Dt} {x : ((Dt × Int × Int) ⊕ Dt)} (F : Fx w G cX8_byKeeping RX8 10 none { frames := 4, cells := 0, slots := 0, locals := 91 }) (hX : WF dd m) (hp : PB m o 8) (h : fX8_byKeeping_142 d o v1 v3 v8 = some x) (K : (Sum.elim (fX8_byKeeping_20P w l G (QM w G WF none d' m 0 0) m o) (fun q => q = d')) x) : V w l WF G (QM w G WF none d' m 0 0) d m 0 0 142 [mA o, mL v1, mU, mI v3, mU, mU, mU, mU, mI v8, mU] [] := by
  unfold fX8_byKeeping_142 at h
  exact loop_ok (P := fX8_byKeeping_142P w l G (QM w G WF none d' m 0 0) m o v1 v3) (fun s x hx h1 h2 => fX8_byKeeping_142f_ok F hX hp hx (by
    cases x with
    | inl s' => exact h1 s' rfl
    | inr z => cases h2 z rfl; exact K)) h
theorem fX8_byKeeping_105_ok {w : Wd} {l : Launch} {G : Cx} {d m dd : Dt} {o v1 v3 v4 v7 : Int} {d' : Dt} {x : ((Dt × Int × Int) ⊕ Dt)} (F : Fx w G cX8_byKeeping RX8 10 none { frames := 4, cells := 0, slots := 0, locals := 91 }) (hX : WF dd m) (hp : PB m o 8) (h : fX8_byKeeping_105 d o v1 v3 v4 v7 = some x) (K : (Sum.elim (fX8_byKeeping_20P w l G (QM w G WF none d' m 0 0) m o) (fun q => q = d')) x) : V w l WF G (QM w G WF none d' m 0 0) d m 0 0 105 [mA o, mL v1, mU, mI v3, mI v4, mU, mU, mI v7, mU, mU] [] := by
  unfold fX8_byKeeping_105 at h
  refine v_iload_n F dX8_byKeeping_105 rfl rfl ?_
  refine v_if_eq F dX8_byKeeping_106 rfl (fun hq21 => ?_) (fun hq21 => ?_)
  · rw [if_pos hq21] at h
    refine v_iconst F dX8_byKeeping_139 ⟨by decide, by decide⟩ ?_
    refine v_istore F dX8_byKeeping_140 (Nat.le_of_ble_eq_true rfl) (L' := [mA o, mL v1, mU, mI v3, mI v4, mU, mU, mI v7, mI 0, mU]) rfl ?_
    refine v_fgt (L' := [mA o, mL v1, mU, mI v3, mU, mU, mU, mU, mI 0, mU]) ⟨Or.inl rfl, Or.inl rfl, Or.inl rfl, Or.inl rfl, Or.inr rfl, Or.inl rfl, Or.inl rfl, Or.inr rfl, Or.inl rfl, Or.inl rfl, trivial⟩ ?_
    exact fX8_byKeeping_142_ok F hX hp h K
  · rw [if_neg hq21] at h
    refine v_iload F dX8_byKeeping_109 rfl ?_
    refine v_if_ne F dX8_byKeeping_111 rfl (fun hq33 => ?_) (fun hq33 => ?_)
    · rw [if_neg hq33] at h
      refine v_iconst F dX8_byKeeping_139 ⟨by decide, by decide⟩ ?_
      refine v_istore F dX8_byKeeping_140 (Nat.le_of_ble_eq_true rfl) (L' := [mA o, mL v1, mU, mI v3, mI v4, mU, mU, mI v7, mI 0, mU]) rfl ?_
      refine v_fgt (L' := [mA o, mL v1, mU, mI v3, mU, mU, mU, mU, mI 0, mU]) ⟨Or.inl rfl, Or.inl rfl, Or.inl rfl, Or.inl rfl, Or.inr rfl, Or.inl rfl, Or.inl rfl, Or.inr rfl, Or.inl rfl, Or.inl rfl, trivial⟩ ?_
      exact fX8_byKeeping_142_ok F hX hp h K
    · rw [if_pos hq33] at h
      refine v_iload F dX8_byKeeping_114 rfl ?_
      refine v_if_eq F dX8_byKeeping_116 rfl (fun hq34 => ?_) (fun hq34 => ?_)
      · rw [if_pos hq34] at h
        refine v_iconst F dX8_byKeeping_139 ⟨by decide, by decide⟩ ?_
        refine v_istore F dX8_byKeeping_140 (Nat.le_of_ble_eq_true rfl) (L' := [mA o, mL v1, mU, mI v3, mI v4, mU, mU, mI v7, mI 0, mU]) rfl ?_
        refine v_fgt (L' := [mA o, mL v1, mU, mI v3, mU, mU, mU, mU, mI 0, mU]) ⟨Or.inl rfl, Or.inl rfl, Or.inl rfl, Or.inl rfl, Or.inr rfl, Or.inl rfl, Or.inl rfl, Or.inr rfl, Or.inl rfl, Or.inl rfl, trivial⟩ ?_
        exact fX8_byKeeping_142_ok F hX hp h K
      · rw [if_neg hq34] at h
        refine v_aload_n F dX8_byKeeping_119 rfl rfl ?_
        obtain ⟨x35, hc36, h⟩ := b1_some h
        refine v_callVv (c := 8) F dX8_byKeeping_120 cv_X8_350 rfl (PB.ob hp hX (Nat.le_of_ble_eq_true rfl)) (Nat.le_of_ble_eq_true rfl) rfl (vm_X8_fewestNow hp hc36) rfl (rOk.of rfl) ?_
        refine v_istore F dX8_byKeeping_123 (Nat.le_of_ble_eq_true rfl) (L' := [mA o, mL v1, mU, mI v3, mI v4, mU, mU, mI v7, mI x35, mU]) rfl ?_
        refine v_aload_n F dX8_byKeeping_125 rfl rfl ?_
        refine v_iload F dX8_byKeeping_126 rfl ?_
        obtain ⟨d37, hc38, h⟩ := bd_some h
        refine v_callV0 (c := 8) F dX8_byKeeping_128 cv_X8_272 rfl (PB.ob hp hX (Nat.le_of_ble_eq_true rfl)) (Nat.le_of_ble_eq_true rfl) rfl (vm_X8_goes hp hc38) rfl (rOk.of rfl) ?_
        refine v_aload_n F dX8_byKeeping_131 rfl rfl ?_
        refine gf_X8_75 F dX8_byKeeping_132 hp (v := (o + 188)) rfl ?_
        refine v_iload F dX8_byKeeping_135 rfl ?_
        refine v_lconst0 F dX8_byKeeping_137 ?_
        obtain ⟨hi39, h⟩ := ck_some h
        obtain ⟨d40, ed40, h⟩ := sd_some h
        refine v_last F dX8_byKeeping_138 (ar_X8_31 hX hp) hi39 ?_
        refine v_nD ed40 ?_
        refine v_iconst F dX8_byKeeping_139 ⟨by decide, by decide⟩ ?_
        refine v_istore F dX8_byKeeping_140 (Nat.le_of_ble_eq_true rfl) (L' := [mA o, mL v1, mU, mI v3, mI v4, mU, mU, mI v7, mI 0, mU]) rfl ?_
        refine v_fgt (L' := [mA o, mL v1, mU, mI v3, mU, mU, mU, mU, mI 0, mU]) ⟨Or.inl rfl, Or.inl rfl, Or.inl rfl, Or.inl rfl, Or.inr rfl, Or.inl rfl, Or.inl rfl, Or.inr rfl, Or.inl rfl, Or.inl rfl, trivial⟩ ?_
        exact fX8_byKeeping_142_ok F hX hp h K
theorem fX8_byKeeping_97_ok {w : Wd} {l : Launch} {G : Cx} {d m dd : Dt} {o v3 v4 v7 : Int} {d' : Dt} {x : ((Dt × Int × Int) ⊕ Dt)} (F : Fx w G cX8_byKeeping RX8 10 none { frames := 4, cells := 0, slots := 0, locals := 91 }) (hX : WF dd m) (hp : PB m o 8) (h : fX8_byKeeping_97 d o v3 v4 v7 = some x) (K : (Sum.elim (fX8_byKeeping_20P w l G (QM w G WF none d' m 0 0) m o) (fun q => q = d')) x) : V w l WF G (QM w G WF none d' m 0 0) d m 0 0 97 [mA o, mU, mU, mI v3, mI v4, mU, mU, mI v7, mU, mU] [] := by
  unfold fX8_byKeeping_97 at h
  refine v_aload_n F dX8_byKeeping_97 rfl rfl ?_
  obtain ⟨d19, hc20, h⟩ := bd_some h
  refine v_callV0 (c := 8) F dX8_byKeeping_98 cv_X8_254 rfl (PB.ob hp hX (Nat.le_of_ble_eq_true rfl)) (Nat.le_of_ble_eq_true rfl) rfl (vm_X8_tell hp hc20) rfl (rOk.of rfl) ?_
  refine v_ldc2 (n := 9223372036854775807) F dX8_byKeeping_101 q2205 rfl ⟨by decide, by decide⟩ ?_
  refine v_lstore_n F dX8_byKeeping_104 rfl (Nat.le_of_ble_eq_true rfl) (L' := [mA o, mL 9223372036854775807, mU, mI v3, mI v4, mU, mU, mI v7, mU, mU]) rfl ?_
  exact fX8_byKeeping_105_ok F hX hp h K
theorem fX8_byKeeping_78_ok {w : Wd} {l : Launch} {G : Cx} {d m dd : Dt} {o v3 v4 v5 s0 : Int} {d' : Dt} {x : ((Dt × Int × Int) ⊕ Dt)} (F : Fx w G cX8_byKeeping RX8 10 none { frames := 4, cells := 0, slots := 0, locals := 91 }) (hX : WF dd m) (hp : PB m o 8) (h : fX8_byKeeping_78 d o v3 v4 v5 s0 = some x) (K : (Sum.elim (fX8_byKeeping_20P w l G (QM w G WF none d' m 0 0) m o) (fun q => q = d')) x) : V w l WF G (QM w G WF none d' m 0 0) d m 0 0 78 [mA o, mU, mU, mI v3, mI v4, mL v5, mU, mU, mU, mU] [mI s0] := by
  unfold fX8_byKeeping_78 at h
  refine v_istore F dX8_byKeeping_78 (Nat.le_of_ble_eq_true rfl) (L' := [mA o, mU, mU, mI v3, mI v4, mL v5, mU, mI s0, mU, mU]) rfl ?_
  refine v_lload F dX8_byKeeping_80 rfl ?_
  refine v_lstore_n F dX8_byKeeping_82 rfl (Nat.le_of_ble_eq_true rfl) (L' := [mA o, mL v5, mU, mI v3, mI v4, mL v5, mU, mI s0, mU, mU]) rfl ?_
  refine v_iload_n F dX8_byKeeping_83 rfl rfl ?_
  refine v_if_eq F dX8_byKeeping_84 rfl (fun hq18 => ?_) (fun hq18 => ?_)
  · rw [if_pos hq18] at h
    refine v_fgt (L' := [mA o, mU, mU, mI v3, mI v4, mU, mU, mI s0, mU, mU]) ⟨Or.inl rfl, Or.inr rfl, Or.inl rfl, Or.inl rfl, Or.inl rfl, Or.inr rfl, Or.inl rfl, Or.inl rfl, Or.inl rfl, Or.inl rfl, trivial⟩ ?_
    exact fX8_byKeeping_97_ok F hX hp h K
  · rw [if_neg hq18] at h
    refine v_iload F dX8_byKeeping_87 rfl ?_
    refine v_if_ne F dX8_byKeeping_89 rfl (fun hq41 => ?_) (fun hq41 => ?_)
    · rw [if_neg hq41] at h
      refine v_fgt (L' := [mA o, mU, mU, mI v3, mI v4, mU, mU, mI s0, mU, mU]) ⟨Or.inl rfl, Or.inr rfl, Or.inl rfl, Or.inl rfl, Or.inl rfl, Or.inr rfl, Or.inl rfl, Or.inl rfl, Or.inl rfl, Or.inl rfl, trivial⟩ ?_
      exact fX8_byKeeping_97_ok F hX hp h K
    · rw [if_pos hq41] at h
      refine v_iload F dX8_byKeeping_92 rfl ?_
      refine v_if_eq F dX8_byKeeping_94 rfl (fun hq42 => ?_) (fun hq42 => ?_)
      · rw [if_pos hq42] at h
        refine v_fgt (L' := [mA o, mL v5, mU, mI v3, mI v4, mU, mU, mI s0, mU, mU]) ⟨Or.inl rfl, Or.inl rfl, Or.inl rfl, Or.inl rfl, Or.inl rfl, Or.inr rfl, Or.inl rfl, Or.inl rfl, Or.inl rfl, Or.inl rfl, trivial⟩ ?_
        exact fX8_byKeeping_105_ok F hX hp h K
      · rw [if_neg hq42] at h
        refine v_fgt (L' := [mA o, mU, mU, mI v3, mI v4, mU, mU, mI s0, mU, mU]) ⟨Or.inl rfl, Or.inr rfl, Or.inl rfl, Or.inl rfl, Or.inl rfl, Or.inr rfl, Or.inl rfl, Or.inl rfl, Or.inl rfl, Or.inl rfl, trivial⟩ ?_
        exact fX8_byKeeping_97_ok F hX hp h K
theorem fX8_byKeeping_50_ok {w : Wd} {l : Launch} {G : Cx} {d m dd : Dt} {o v1 v4 s0 : Int} {d' : Dt} {x : ((Dt × Int × Int) ⊕ Dt)} (F : Fx w G cX8_byKeeping RX8 10 none { frames := 4, cells := 0, slots := 0, locals := 91 }) (hX : WF dd m) (hp : PB m o 8) (h : fX8_byKeeping_50 d o v1 v4 s0 = some x) (K : (Sum.elim (fX8_byKeeping_20P w l G (QM w G WF none d' m 0 0) m o) (fun q => q = d')) x) : V w l WF G (QM w G WF none d' m 0 0) d m 0 0 50 [mA o, mL v1, mU, mU, mI v4, mU, mU, mU, mU, mU] [mI s0] := by
  unfold fX8_byKeeping_50 at h
  refine v_istore_n F dX8_byKeeping_50 rfl (Nat.le_of_ble_eq_true rfl) (L' := [mA o, mL v1, mU, mI s0, mI v4, mU, mU, mU, mU, mU]) rfl ?_
  refine v_aload_n F dX8_byKeeping_51 rfl rfl ?_
  obtain ⟨x15, hc16, h⟩ := b1_some h
  refine v_callVv (c := 8) F dX8_byKeeping_52 cv_X8_344 rfl (PB.ob hp hX (Nat.le_of_ble_eq_true rfl)) (Nat.le_of_ble_eq_true rfl) rfl (vm_X8_surplus hp hc16) rfl (rOk.of rfl) ?_
  refine v_lstore F dX8_byKeeping_55 (Nat.le_of_ble_eq_true rfl) (L' := [mA o, mL v1, mU, mI s0, mI v4, mL x15, mU, mU, mU, mU]) rfl ?_
  refine v_lload F dX8_byKeeping_57 rfl ?_
  refine v_ldc2 (n := 100) F dX8_byKeeping_59 q2224 rfl ⟨by decide, by decide⟩ ?_
  refine v_lcmp F dX8_byKeeping_62 ?_
  refine v_if_lt F dX8_byKeeping_63 rfl (fun hq17 => ?_) (fun hq17 => ?_)
  · rw [if_pos hq17] at h
    refine v_iconst F dX8_byKeeping_73 ⟨by decide, by decide⟩ ?_
    refine v_goto F dX8_byKeeping_74 rfl ?_
    refine v_fgt (L' := [mA o, mU, mU, mI s0, mI v4, mL x15, mU, mU, mU, mU]) ⟨Or.inl rfl, Or.inr rfl, Or.inl rfl, Or.inl rfl, Or.inl rfl, Or.inl rfl, Or.inl rfl, Or.inl rfl, Or.inl rfl, Or.inl rfl, trivial⟩ ?_
    exact fX8_byKeeping_78_ok F hX hp h K
  · rw [if_neg hq17] at h
    refine v_lload F dX8_byKeeping_66 rfl ?_
    refine v_lload_n F dX8_byKeeping_68 rfl rfl ?_
    refine v_lcmp F dX8_byKeeping_69 ?_
    refine v_if_lt F dX8_byKeeping_70 rfl (fun hq43 => ?_) (fun hq43 => ?_)
    · rw [if_pos hq43] at h
      refine v_iconst F dX8_byKeeping_77 ⟨by decide, by decide⟩ ?_
      refine v_fgt (L' := [mA o, mU, mU, mI s0, mI v4, mL x15, mU, mU, mU, mU]) ⟨Or.inl rfl, Or.inr rfl, Or.inl rfl, Or.inl rfl, Or.inl rfl, Or.inl rfl, Or.inl rfl, Or.inl rfl, Or.inl rfl, Or.inl rfl, trivial⟩ ?_
      exact fX8_byKeeping_78_ok F hX hp h K
    · rw [if_neg hq43] at h
      refine v_iconst F dX8_byKeeping_73 ⟨by decide, by decide⟩ ?_
      refine v_goto F dX8_byKeeping_74 rfl ?_
      refine v_fgt (L' := [mA o, mU, mU, mI s0, mI v4, mL x15, mU, mU, mU, mU]) ⟨Or.inl rfl, Or.inr rfl, Or.inl rfl, Or.inl rfl, Or.inl rfl, Or.inl rfl, Or.inl rfl, Or.inl rfl, Or.inl rfl, Or.inl rfl, trivial⟩ ?_
      exact fX8_byKeeping_78_ok F hX hp h K
theorem fX8_byKeeping_20f_ok {w : Wd} {l : Launch} {G : Cx} {m dd : Dt} {o : Int} {d' : Dt} {s : Dt × Int × Int} {x : ((Dt × Int × Int) ⊕ Dt)} (F : Fx w G cX8_byKeeping RX8 10 none { frames := 4, cells := 0, slots := 0, locals := 91 }) (hX : WF dd m) (hp : PB m o 8) (h : fX8_byKeeping_20f o s = some x) (K : (Sum.elim (fX8_byKeeping_20P w l G (QM w G WF none d' m 0 0) m o) (fun q => q = d')) x) : V w l WF G (QM w G WF none d' m 0 0) s.1 m 0 0 20 [mA o, mL (s.2.1), mU, mI (s.2.2), mU, mU, mU, mU, mU, mU] [] := by
  obtain ⟨d, v1, v3⟩ := s
  unfold fX8_byKeeping_20f at h
  dsimp only at h
  refine v_iload_n F dX8_byKeeping_20 rfl rfl ?_
  refine v_if_eq F dX8_byKeeping_21 rfl (fun hq5 => ?_) (fun hq5 => ?_)
  · rw [if_pos hq5] at h
    obtain ⟨z, hu, ez⟩ := up_some h
    clear h
    subst ez
    have h := hu
    clear hu
    cases h
    cases (show _ = d' from K)
    exact v_vret F dX8_byKeeping_229
  · rw [if_neg hq5] at h
    refine v_aload_n F dX8_byKeeping_24 rfl rfl ?_
    obtain ⟨d6, hc7, h⟩ := bd_some h
    refine v_callV0 (c := 8) F dX8_byKeeping_25 cv_X8_341 rfl (PB.ob hp hX (Nat.le_of_ble_eq_true rfl)) (Nat.le_of_ble_eq_true rfl) rfl (vm_X8_flow hp hc7) rfl (rOk.of rfl) ?_
    refine v_aload_n F dX8_byKeeping_28 rfl rfl ?_
    refine v_aload_n F dX8_byKeeping_29 rfl rfl ?_
    refine gf_X8_280 F dX8_byKeeping_30 hp ?_
    obtain ⟨d8, x10, hc9, h⟩ := b2_some h
    refine v_callVv (c := 8) F dX8_byKeeping_33 cv_X8_227 rfl (PB.ob hp hX (Nat.le_of_ble_eq_true rfl)) (Nat.le_of_ble_eq_true rfl) rfl (vm_X8_electAll hp hc9) rfl (rOk.of rfl) ?_
    refine v_istore F dX8_byKeeping_36 (Nat.le_of_ble_eq_true rfl) (L' := [mA o, mL v1, mU, mI v3, mI x10, mU, mU, mU, mU, mU]) rfl ?_
    refine v_aload_n F dX8_byKeeping_38 rfl rfl ?_
    obtain ⟨d11, x13, hc12, h⟩ := b2_some h
    refine v_callVv (c := 8) F dX8_byKeeping_39 cv_X8_310 rfl (PB.ob hp hX (Nat.le_of_ble_eq_true rfl)) (Nat.le_of_ble_eq_true rfl) rfl (vm_X8_ends hp hc12) rfl (rOk.of rfl) ?_
    refine v_if_ne F dX8_byKeeping_42 rfl (fun hq14 => ?_) (fun hq14 => ?_)
    · rw [if_neg hq14] at h
      refine v_iconst F dX8_byKeeping_49 ⟨by decide, by decide⟩ ?_
      refine v_fgt (L' := [mA o, mL v1, mU, mU, mI x10, mU, mU, mU, mU, mU]) ⟨Or.inl rfl, Or.inl rfl, Or.inl rfl, Or.inr rfl, Or.inl rfl, Or.inl rfl, Or.inl rfl, Or.inl rfl, Or.inl rfl, Or.inl rfl, trivial⟩ ?_
      exact fX8_byKeeping_50_ok F hX hp h K
    · rw [if_pos hq14] at h
      refine v_iconst F dX8_byKeeping_45 ⟨by decide, by decide⟩ ?_
      refine v_goto F dX8_byKeeping_46 rfl ?_
      refine v_fgt (L' := [mA o, mL v1, mU, mU, mI x10, mU, mU, mU, mU, mU]) ⟨Or.inl rfl, Or.inl rfl, Or.inl rfl, Or.inr rfl, Or.inl rfl, Or.inl rfl, Or.inl rfl, Or.inl rfl, Or.inl rfl, Or.inl rfl, trivial⟩ ?_
      exact fX8_byKeeping_50_ok F hX hp h K
theorem fX8_byKeeping_20_ok {w : Wd} {l : Launch} {G : Cx} {d m dd : Dt} {o v1 v3 : Int} {d' : Dt} {x : Dt} (F : Fx w G cX8_byKeeping RX8 10 none { frames := 4, cells := 0, slots := 0, locals := 91 }) (hX : WF dd m) (hp : PB m o 8) (h : fX8_byKeeping_20 d o v1 v3 = some x) (K : (fun q => q = d') x) : V w l WF G (QM w G WF none d' m 0 0) d m 0 0 20 [mA o, mL v1, mU, mI v3, mU, mU, mU, mU, mU, mU] [] := by
  unfold fX8_byKeeping_20 at h
  exact loop_ok (P := fX8_byKeeping_20P w l G (QM w G WF none d' m 0 0) m o) (fun s x hx h1 h2 => fX8_byKeeping_20f_ok F hX hp hx (by
    cases x with
    | inl s' => exact h1 s' rfl
    | inr z => cases h2 z rfl; exact K)) h
theorem vm_X8_byKeeping {w : Wd} {l : Launch} {d m : Dt} {o : Int} {d' : Dt} (hp : PB m o 8) (h : fX8_byKeeping d o = some d') : VM w l WF yX8_byKeeping cX8_byKeeping 10 none 4 91 0 0 d m [mA o] none d' m := by
  obtain ⟨x, h, K⟩ : ∃ x, fX8_byKeeping d o = some x ∧ x = d' := ⟨_, h, rfl⟩
  refine VM.of (L := [mA o, mU, mU, mU, mU, mU, mU, mU, mU, mU]) (by decide +kernel) rfl (Nat.le_of_ble_eq_true rfl) fun G F _ => v_fact fun _ hX _ _ => ?_
  unfold fX8_byKeeping at h
  refine v_aload_n F dX8_byKeeping_0 rfl rfl ?_
  obtain ⟨d1, hc2, h⟩ := bd_some h
  refine v_callV0 (c := 8) F dX8_byKeeping_1 cv_X8_239 rfl (PB.ob hp hX (Nat.le_of_ble_eq_true rfl)) (Nat.le_of_ble_eq_true rfl) rfl (vm_X8_rankAll hp hc2) rfl (rOk.of rfl) ?_
  refine v_aload_n F dX8_byKeeping_4 rfl rfl ?_
  refine gf_X8_75 F dX8_byKeeping_5 hp (v := (o + 188)) rfl ?_
  refine v_ldc2 (n := 100000000) F dX8_byKeeping_8 q2204 rfl ⟨by decide, by decide⟩ ?_
  obtain ⟨d3, hc4, h⟩ := bd_some h
  refine v_callS0 F dX8_byKeeping_11 cs_X8_242 rfl (vm_J4_fill_3 (ar_X8_31 hX hp) hc4) rfl (rOk.of rfl) ?_
  refine v_ldc2 (n := 9223372036854775807) F dX8_byKeeping_14 q2205 rfl ⟨by decide, by decide⟩ ?_
  refine v_lstore_n F dX8_byKeeping_17 rfl (Nat.le_of_ble_eq_true rfl) (L' := [mA o, mL 9223372036854775807, mU, mU, mU, mU, mU, mU, mU, mU]) rfl ?_
  refine v_iconst F dX8_byKeeping_18 ⟨by decide, by decide⟩ ?_
  refine v_istore_n F dX8_byKeeping_19 rfl (Nat.le_of_ble_eq_true rfl) (L' := [mA o, mL 9223372036854775807, mU, mI 1, mU, mU, mU, mU, mU, mU]) rfl ?_
  exact fX8_byKeeping_20_ok F hX hp h K
def fX8_lay_83P (w : Wd) (l : Launch) (G : Cx) (Q : State → Prop) (m : Dt) (o v1 : Int) (s : Dt × Int) : Prop := V w l WF G Q s.1 m 0 0 83 [mA o, mL v1, mU, mI (s.2)] []
theorem fX8_lay_83f_ok {w : Wd} {l : Launch} {G : Cx} {m dd : Dt} {o v1 : Int} {d' : Dt} {s : Dt × Int} {x : ((Dt × Int) ⊕ Dt)} (F : Fx w G cX8_lay RX8 4 none { frames := 2, cells := 0, slots := 0, locals := 61 }) (hX : WF dd m) (hp : PB m o 8) (h : fX8_lay_83f o v1 s = some x) (K : (Sum.elim (fX8_lay_83P w l G (QM w G WF none d' m 0 0) m o v1) (fun q => q = d')) x) : V w l WF G (QM w G WF none d' m 0 0) s.1 m 0 0 83 [mA o, mL v1, mU, mI (s.2)] [] := by
  obtain ⟨d, v3⟩ := s
  unfold fX8_lay_83f at h
  dsimp only at h
  refine v_iload_n F dX8_lay_83 rfl rfl ?_
  refine v_aload_n F dX8_lay_84 rfl rfl ?_
  refine gf_X8_155 F dX8_lay_85 hp ?_
  refine v_icmp_ge F dX8_lay_88 rfl (fun hq18 => ?_) (fun hq18 => ?_)
  · rw [if_pos hq18] at h
    obtain ⟨z, hu, ez⟩ := up_some h
    clear h
    subst ez
    have h := hu
    clear hu
    refine v_aload_n F dX8_lay_115 rfl rfl ?_
    refine gf_X8_72 F dX8_lay_116 hp (v := (o + 187)) rfl ?_
    refine v_iconst F dX8_lay_119 ⟨by decide, by decide⟩ ?_
    obtain ⟨d19, hc20, h⟩ := bd_some h
    refine v_callS0 F dX8_lay_120 cs_X8_287 rfl (vm_J4_fill (ar_X8_28 hX hp) hc20) rfl (rOk.of rfl) ?_
    cases h
    cases (show _ = d' from K)
    exact v_vret F dX8_lay_123
  · rw [if_neg hq18] at h
    refine v_aload_n F dX8_lay_91 rfl rfl ?_
    refine gf_X8_66 F dX8_lay_92 hp (v := (o + 185)) rfl ?_
    refine v_iload_n F dX8_lay_95 rfl rfl ?_
    refine v_lload_n F dX8_lay_96 rfl rfl ?_
    obtain ⟨hi21, h⟩ := ck_some h
    obtain ⟨d22, ed22, h⟩ := sd_some h
    refine v_last F dX8_lay_97 (ar_X8_26 hX hp) hi21 ?_
    refine v_nD ed22 ?_
    refine v_aload_n F dX8_lay_98 rfl rfl ?_
    refine gf_X8_69 F dX8_lay_99 hp (v := (o + 186)) rfl ?_
    refine v_iload_n F dX8_lay_102 rfl rfl ?_
    refine v_aload_n F dX8_lay_103 rfl rfl ?_
    refine v_iload_n F dX8_lay_104 rfl rfl ?_
    obtain ⟨x23, hc24, h⟩ := b1_some h
    refine v_callVv (c := 8) F dX8_lay_105 cv_X8_263 rfl (PB.ob hp hX (Nat.le_of_ble_eq_true rfl)) (Nat.le_of_ble_eq_true rfl) rfl (vm_X8_nextOn hp hc24) rfl (rOk.of rfl) ?_
    obtain ⟨d25, ed25, h⟩ := sd_some h
    refine v_iast F dX8_lay_108 (ar_X8_27 hX hp) hi21 ?_
    refine v_nD ed25 ?_
    obtain ⟨x26, ex26, h⟩ := lv_some h
    refine v_iincN F dX8_lay_109 (Nat.le_of_ble_eq_true rfl) rfl ex26 (L' := [mA o, mL v1, mU, mI x26]) rfl ?_
    refine v_goto F dX8_lay_112 rfl ?_
    cases h
    exact K
theorem fX8_lay_83_ok {w : Wd} {l : Launch} {G : Cx} {d m dd : Dt} {o v1 v3 : Int} {d' : Dt} {x : Dt} (F : Fx w G cX8_lay RX8 4 none { frames := 2, cells := 0, slots := 0, locals := 61 }) (hX : WF dd m) (hp : PB m o 8) (h : fX8_lay_83 d o v1 v3 = some x) (K : (fun q => q = d') x) : V w l WF G (QM w G WF none d' m 0 0) d m 0 0 83 [mA o, mL v1, mU, mI v3] [] := by
  unfold fX8_lay_83 at h
  exact loop_ok (P := fX8_lay_83P w l G (QM w G WF none d' m 0 0) m o v1) (fun s x hx h1 h2 => fX8_lay_83f_ok F hX hp hx (by
    cases x with
    | inl s' => exact h1 s' rfl
    | inr z => cases h2 z rfl; exact K)) h
theorem fX8_lay_63_ok {w : Wd} {l : Launch} {G : Cx} {d m dd : Dt} {o v1 s1 s2 : Int} {d' : Dt} {x : Dt} (F : Fx w G cX8_lay RX8 4 none { frames := 2, cells := 0, slots := 0, locals := 61 }) (hX : WF dd m) (hp : PB m o 8) (h : fX8_lay_63 d o v1 s1 s2 = some x) (K : (fun q => q = d') x) : V w l WF G (QM w G WF none d' m 0 0) d m 0 0 63 [mA o, mL v1, mU, mU] [mI s2, mL s1, mA o] := by
  unfold fX8_lay_63 at h
  refine v_i2l F dX8_lay_63 ?_
  refine v_lmul F dX8_lay_64 ?_
  obtain ⟨d14, ed14, h⟩ := sd_some h
  refine pf_X8_280 F dX8_lay_65 hp ?_
  refine v_nD ed14 ?_
  refine v_aload_n F dX8_lay_68 rfl rfl ?_
  refine v_aload_n F dX8_lay_69 rfl rfl ?_
  refine gf_X8_139 F dX8_lay_70 hp ?_
  refine v_i2l F dX8_lay_73 ?_
  obtain ⟨d15, ed15, h⟩ := sd_some h
  refine pf_X8_284 F dX8_lay_74 hp ?_
  refine v_nD ed15 ?_
  refine v_aload_n F dX8_lay_77 rfl rfl ?_
  obtain ⟨d16, hc17, h⟩ := bd_some h
  refine v_callV0 (c := 8) F dX8_lay_78 cv_X8_239 rfl (PB.ob hp hX (Nat.le_of_ble_eq_true rfl)) (Nat.le_of_ble_eq_true rfl) rfl (vm_X8_rankAll hp hc17) rfl (rOk.of rfl) ?_
  refine v_iconst F dX8_lay_81 ⟨by decide, by decide⟩ ?_
  refine v_istore_n F dX8_lay_82 rfl (Nat.le_of_ble_eq_true rfl) (L' := [mA o, mL v1, mU, mI 0]) rfl ?_
  exact fX8_lay_83_ok F hX hp h K
theorem fX8_lay_19_ok {w : Wd} {l : Launch} {G : Cx} {d m dd : Dt} {o s0 : Int} {d' : Dt} {x : Dt} (F : Fx w G cX8_lay RX8 4 none { frames := 2, cells := 0, slots := 0, locals := 61 }) (hX : WF dd m) (hp : PB m o 8) (h : fX8_lay_19 d o s0 = some x) (K : (fun q => q = d') x) : V w l WF G (QM w G WF none d' m 0 0) d m 0 0 19 [mA o, mU, mU, mU] [mL s0] := by
  unfold fX8_lay_19 at h
  refine v_lstore_n F dX8_lay_19 rfl (Nat.le_of_ble_eq_true rfl) (L' := [mA o, mL s0, mU, mU]) rfl ?_
  refine v_aload_n F dX8_lay_20 rfl rfl ?_
  refine v_lload_n F dX8_lay_21 rfl rfl ?_
  refine v_aload_n F dX8_lay_22 rfl rfl ?_
  obtain ⟨x5, ex5, h⟩ := lv_some h
  obtain ⟨hn7, h⟩ := ck_some h
  refine gf_X8_131 F dX8_lay_23 hp ex5 fun hr6 => ?_
  have x5p := hr6.resolve_left hn7
  refine gf_X8_277 F dX8_lay_26 x5p ?_
  refine v_if_ne F dX8_lay_29 rfl (fun hq8 => ?_) (fun hq8 => ?_)
  · rw [if_neg hq8] at h
    refine v_aload_n F dX8_lay_47 rfl rfl ?_
    refine gf_X8_155 F dX8_lay_48 hp ?_
    refine v_aload_n F dX8_lay_51 rfl rfl ?_
    obtain ⟨x9, ex9, h⟩ := lv_some h
    obtain ⟨hn11, h⟩ := ck_some h
    refine gf_X8_131 F dX8_lay_52 hp ex9 fun hr10 => ?_
    have x9p := hr10.resolve_left hn11
    refine gf_X8_185 F dX8_lay_55 x9p ?_
    refine v_iconst F dX8_lay_58 ⟨by decide, by decide⟩ ?_
    refine v_iadd F dX8_lay_59 ?_
    obtain ⟨x12, ex12, h⟩ := lv_some h
    refine v_nI ex12 ?_
    obtain ⟨hz13, h⟩ := ck_some h
    refine v_idiv F dX8_lay_60 hz13 ?_
    refine v_iconst F dX8_lay_61 ⟨by decide, by decide⟩ ?_
    refine v_iadd F dX8_lay_62 ?_
    exact fX8_lay_63_ok F hX hp h K
  · rw [if_pos hq8] at h
    refine v_aload_n F dX8_lay_32 rfl rfl ?_
    refine gf_X8_155 F dX8_lay_33 hp ?_
    refine v_aload_n F dX8_lay_36 rfl rfl ?_
    obtain ⟨x27, ex27, h⟩ := lv_some h
    obtain ⟨hn29, h⟩ := ck_some h
    refine gf_X8_131 F dX8_lay_37 hp ex27 fun hr28 => ?_
    have x27p := hr28.resolve_left hn29
    refine gf_X8_185 F dX8_lay_40 x27p ?_
    obtain ⟨x30, ex30, h⟩ := lv_some h
    refine v_nI ex30 ?_
    obtain ⟨hz31, h⟩ := ck_some h
    refine v_idiv F dX8_lay_43 hz31 ?_
    refine v_goto F dX8_lay_44 rfl ?_
    exact fX8_lay_63_ok F hX hp h K
theorem vm_X8_lay {w : Wd} {l : Launch} {d m : Dt} {o : Int} {d' : Dt} (hp : PB m o 8) (h : fX8_lay d o = some d') : VM w l WF yX8_lay cX8_lay 4 none 2 61 0 0 d m [mA o] none d' m := by
  obtain ⟨x, h, K⟩ : ∃ x, fX8_lay d o = some x ∧ x = d' := ⟨_, h, rfl⟩
  refine VM.of (L := [mA o, mU, mU, mU]) (by decide +kernel) rfl (Nat.le_of_ble_eq_true rfl) fun G F _ => v_fact fun _ hX _ _ => ?_
  unfold fX8_lay at h
  refine v_aload_n F dX8_lay_0 rfl rfl ?_
  obtain ⟨x1, ex1, h⟩ := lv_some h
  obtain ⟨hn3, h⟩ := ck_some h
  refine gf_X8_131 F dX8_lay_1 hp ex1 fun hr2 => ?_
  have x1p := hr2.resolve_left hn3
  refine gf_X8_180 F dX8_lay_4 x1p ?_
  refine v_bipush F dX8_lay_7 rfl ⟨by decide, by decide⟩ ?_
  refine v_icmp_ne F dX8_lay_9 rfl (fun hq4 => ?_) (fun hq4 => ?_)
  · rw [if_neg hq4] at h
    refine v_lconst1 F dX8_lay_18 ?_
    exact fX8_lay_19_ok F hX hp h K
  · rw [if_pos hq4] at h
    refine v_ldc2 (n := 1000000) F dX8_lay_12 q2240 rfl ⟨by decide, by decide⟩ ?_
    refine v_goto F dX8_lay_15 rfl ?_
    exact fX8_lay_19_ok F hX hp h K
def fX8_weigh_2P (w : Wd) (l : Launch) (G : Cx) (Q : State → Prop) (m : Dt) (o : Int) (s : Dt × Int) : Prop := V w l WF G Q s.1 m 0 0 2 [mA o, mI (s.2)] []
def fX8_weigh_41P (w : Wd) (l : Launch) (G : Cx) (Q : State → Prop) (m : Dt) (o : Int) (s : Dt × Int) : Prop := V w l WF G Q s.1 m 0 0 41 [mA o, mI (s.2)] []
theorem fX8_weigh_41f_ok {w : Wd} {l : Launch} {G : Cx} {m dd : Dt} {o : Int} {d' : Dt} {s : Dt × Int} {x : ((Dt × Int) ⊕ Dt)} (F : Fx w G cX8_weigh RX8 2 none { frames := 0, cells := 0, slots := 0, locals := 0 }) (hX : WF dd m) (hp : PB m o 8) (h : fX8_weigh_41f o s = some x) (K : (Sum.elim (fX8_weigh_41P w l G (QM w G WF none d' m 0 0) m o) (fun q => q = d')) x) : V w l WF G (QM w G WF none d' m 0 0) s.1 m 0 0 41 [mA o, mI (s.2)] [] := by
  obtain ⟨d, v1⟩ := s
  unfold fX8_weigh_41f at h
  dsimp only at h
  refine v_iload_n F dX8_weigh_41 rfl rfl ?_
  refine v_aload_n F dX8_weigh_42 rfl rfl ?_
  refine gf_X8_155 F dX8_weigh_43 hp ?_
  refine v_icmp_ge F dX8_weigh_46 rfl (fun hq2 => ?_) (fun hq2 => ?_)
  · rw [if_pos hq2] at h
    obtain ⟨z, hu, ez⟩ := up_some h
    clear h
    subst ez
    have h := hu
    clear hu
    cases h
    cases (show _ = d' from K)
    exact v_vret F dX8_weigh_85
  · rw [if_neg hq2] at h
    refine v_aload_n F dX8_weigh_49 rfl rfl ?_
    refine gf_X8_69 F dX8_weigh_50 hp (v := (o + 186)) rfl ?_
    refine v_iload_n F dX8_weigh_53 rfl rfl ?_
    obtain ⟨hi3, h⟩ := ck_some h
    refine v_iald F dX8_weigh_54 (ar_X8_27 hX hp) hi3 ?_
    refine v_iconst F dX8_weigh_55 ⟨by decide, by decide⟩ ?_
    refine v_icmp_eq F dX8_weigh_56 rfl (fun hq4 => ?_) (fun hq4 => ?_)
    · rw [if_pos hq4] at h
      obtain ⟨x5, ex5, h⟩ := lv_some h
      refine v_iincN F dX8_weigh_79 (Nat.le_of_ble_eq_true rfl) rfl ex5 (L' := [mA o, mI x5]) rfl ?_
      refine v_goto F dX8_weigh_82 rfl ?_
      cases h
      exact K
    · rw [if_neg hq4] at h
      refine v_aload_n F dX8_weigh_59 rfl rfl ?_
      refine gf_X8_33 F dX8_weigh_60 hp (v := (o + 126)) rfl ?_
      refine v_aload_n F dX8_weigh_63 rfl rfl ?_
      refine gf_X8_69 F dX8_weigh_64 hp (v := (o + 186)) rfl ?_
      refine v_iload_n F dX8_weigh_67 rfl rfl ?_
      refine v_iald F dX8_weigh_68 (ar_X8_27 hX hp) hi3 ?_
      obtain ⟨x6, ex6, h⟩ := lv_some h
      refine v_nI ex6 ?_
      refine v_dup2_IA F dX8_weigh_69 ?_
      obtain ⟨hi7, h⟩ := ck_some h
      refine v_lald F dX8_weigh_70 (ar_X8_13 hX hp) hi7 ?_
      refine v_aload_n F dX8_weigh_71 rfl rfl ?_
      refine gf_X8_66 F dX8_weigh_72 hp (v := (o + 185)) rfl ?_
      refine v_iload_n F dX8_weigh_75 rfl rfl ?_
      refine v_lald F dX8_weigh_76 (ar_X8_26 hX hp) hi3 ?_
      refine v_ladd F dX8_weigh_77 ?_
      obtain ⟨d8, ed8, h⟩ := sd_some h
      refine v_last F dX8_weigh_78 (ar_X8_13 hX hp) hi7 ?_
      refine v_nD ed8 ?_
      obtain ⟨x9, ex9, h⟩ := lv_some h
      refine v_iincN F dX8_weigh_79 (Nat.le_of_ble_eq_true rfl) rfl ex9 (L' := [mA o, mI x9]) rfl ?_
      refine v_goto F dX8_weigh_82 rfl ?_
      cases h
      exact K
theorem fX8_weigh_41_ok {w : Wd} {l : Launch} {G : Cx} {d m dd : Dt} {o v1 : Int} {d' : Dt} {x : Dt} (F : Fx w G cX8_weigh RX8 2 none { frames := 0, cells := 0, slots := 0, locals := 0 }) (hX : WF dd m) (hp : PB m o 8) (h : fX8_weigh_41 d o v1 = some x) (K : (fun q => q = d') x) : V w l WF G (QM w G WF none d' m 0 0) d m 0 0 41 [mA o, mI v1] [] := by
  unfold fX8_weigh_41 at h
  exact loop_ok (P := fX8_weigh_41P w l G (QM w G WF none d' m 0 0) m o) (fun s x hx h1 h2 => fX8_weigh_41f_ok F hX hp hx (by
    cases x with
    | inl s' => exact h1 s' rfl
    | inr z => cases h2 z rfl; exact K)) h
theorem fX8_weigh_32_ok {w : Wd} {l : Launch} {G : Cx} {d m dd : Dt} {o v1 s1 s2 : Int} {d' : Dt} {x : ((Dt × Int) ⊕ Dt)} (F : Fx w G cX8_weigh RX8 2 none { frames := 0, cells := 0, slots := 0, locals := 0 }) (hX : WF dd m) (hp : PB m o 8) (h : fX8_weigh_32 d o v1 s1 s2 = some x) (K : (Sum.elim (fX8_weigh_2P w l G (QM w G WF none d' m 0 0) m o) (fun q => q = d')) x) : V w l WF G (QM w G WF none d' m 0 0) d m 0 0 32 [mA o, mI v1] [mL s2, mI s1, mA (o + 126)] := by
  unfold fX8_weigh_32 at h
  obtain ⟨hi12, h⟩ := ck_some h
  obtain ⟨d13, ed13, h⟩ := sd_some h
  refine v_last F dX8_weigh_32 (ar_X8_13 hX hp) hi12 ?_
  refine v_nD ed13 ?_
  obtain ⟨x14, ex14, h⟩ := lv_some h
  refine v_iincN F dX8_weigh_33 (Nat.le_of_ble_eq_true rfl) rfl ex14 (L' := [mA o, mI x14]) rfl ?_
  refine v_goto F dX8_weigh_36 rfl ?_
  cases h
  exact K
theorem fX8_weigh_2f_ok {w : Wd} {l : Launch} {G : Cx} {m dd : Dt} {o : Int} {d' : Dt} {s : Dt × Int} {x : ((Dt × Int) ⊕ Dt)} (F : Fx w G cX8_weigh RX8 2 none { frames := 0, cells := 0, slots := 0, locals := 0 }) (hX : WF dd m) (hp : PB m o 8) (h : fX8_weigh_2f o s = some x) (K : (Sum.elim (fX8_weigh_2P w l G (QM w G WF none d' m 0 0) m o) (fun q => q = d')) x) : V w l WF G (QM w G WF none d' m 0 0) s.1 m 0 0 2 [mA o, mI (s.2)] [] := by
  obtain ⟨d, v1⟩ := s
  unfold fX8_weigh_2f at h
  dsimp only at h
  refine v_iload_n F dX8_weigh_2 rfl rfl ?_
  refine v_aload_n F dX8_weigh_3 rfl rfl ?_
  refine gf_X8_148 F dX8_weigh_4 hp ?_
  refine v_icmp_ge F dX8_weigh_7 rfl (fun hq1 => ?_) (fun hq1 => ?_)
  · rw [if_pos hq1] at h
    obtain ⟨z, hu, ez⟩ := up_some h
    clear h
    subst ez
    have h := hu
    clear hu
    refine v_iconst F dX8_weigh_39 ⟨by decide, by decide⟩ ?_
    refine v_istore_n F dX8_weigh_40 rfl (Nat.le_of_ble_eq_true rfl) (L' := [mA o, mI 0]) rfl ?_
    exact fX8_weigh_41_ok F hX hp h K
  · rw [if_neg hq1] at h
    refine v_aload_n F dX8_weigh_10 rfl rfl ?_
    refine gf_X8_33 F dX8_weigh_11 hp (v := (o + 126)) rfl ?_
    refine v_iload_n F dX8_weigh_14 rfl rfl ?_
    refine v_aload_n F dX8_weigh_15 rfl rfl ?_
    refine gf_X8_72 F dX8_weigh_16 hp (v := (o + 187)) rfl ?_
    refine v_iload_n F dX8_weigh_19 rfl rfl ?_
    obtain ⟨hi10, h⟩ := ck_some h
    refine v_zald F dX8_weigh_20 (ar_X8_28 hX hp) hi10 ?_
    refine v_if_eq F dX8_weigh_21 rfl (fun hq11 => ?_) (fun hq11 => ?_)
    · rw [if_pos hq11] at h
      refine v_lconst0 F dX8_weigh_31 ?_
      exact fX8_weigh_32_ok F hX hp h K
    · rw [if_neg hq11] at h
      refine v_aload_n F dX8_weigh_24 rfl rfl ?_
      refine gf_X8_280 F dX8_weigh_25 hp ?_
      refine v_goto F dX8_weigh_28 rfl ?_
      exact fX8_weigh_32_ok F hX hp h K
theorem fX8_weigh_2_ok {w : Wd} {l : Launch} {G : Cx} {d m dd : Dt} {o v1 : Int} {d' : Dt} {x : Dt} (F : Fx w G cX8_weigh RX8 2 none { frames := 0, cells := 0, slots := 0, locals := 0 }) (hX : WF dd m) (hp : PB m o 8) (h : fX8_weigh_2 d o v1 = some x) (K : (fun q => q = d') x) : V w l WF G (QM w G WF none d' m 0 0) d m 0 0 2 [mA o, mI v1] [] := by
  unfold fX8_weigh_2 at h
  exact loop_ok (P := fX8_weigh_2P w l G (QM w G WF none d' m 0 0) m o) (fun s x hx h1 h2 => fX8_weigh_2f_ok F hX hp hx (by
    cases x with
    | inl s' => exact h1 s' rfl
    | inr z => cases h2 z rfl; exact K)) h
theorem vm_X8_weigh {w : Wd} {l : Launch} {d m : Dt} {o : Int} {d' : Dt} (hp : PB m o 8) (h : fX8_weigh d o = some d') : VM w l WF yX8_weigh cX8_weigh 2 none 0 0 0 0 d m [mA o] none d' m := by
  obtain ⟨x, h, K⟩ : ∃ x, fX8_weigh d o = some x ∧ x = d' := ⟨_, h, rfl⟩
  refine VM.of (L := [mA o, mU]) (by decide +kernel) rfl (Nat.le_of_ble_eq_true rfl) fun G F _ => v_fact fun _ hX _ _ => ?_
  unfold fX8_weigh at h
  refine v_iconst F dX8_weigh_0 ⟨by decide, by decide⟩ ?_
  refine v_istore_n F dX8_weigh_1 rfl (Nat.le_of_ble_eq_true rfl) (L' := [mA o, mI 0]) rfl ?_
  exact fX8_weigh_2_ok F hX hp h K
def fX8_richest_4P (w : Wd) (l : Launch) (G : Cx) (Q : State → Prop) (m : Dt) (d : Dt) (o : Int) (s : Int × Int) : Prop := V w l WF G Q d m 0 0 4 [mA o, mI (s.1), mI (s.2), mU] []
theorem fX8_richest_4f_ok {w : Wd} {l : Launch} {G : Cx} {d m dd : Dt} {o : Int} {r : Int} {s : Int × Int} {x : ((Int × Int) ⊕ Int)} (F : Fx w G cX8_richest RX8 4 (some .int) { frames := 0, cells := 0, slots := 0, locals := 0 }) (hX : WF dd m) (hp : PB m o 8) (h : fX8_richest_4f d o s = some x) (K : (Sum.elim (fX8_richest_4P w l G (QM w G WF (some (mI r)) d m 0 0) m d o) (fun q => q = r)) x) : V w l WF G (QM w G WF (some (mI r)) d m 0 0) d m 0 0 4 [mA o, mI (s.1), mI (s.2), mU] [] := by
  obtain ⟨v1, v2⟩ := s
  unfold fX8_richest_4f at h
  dsimp only at h
  refine v_iload_n F dX8_richest_4 rfl rfl ?_
  refine v_aload_n F dX8_richest_5 rfl rfl ?_
  refine gf_X8_167 F dX8_richest_6 hp ?_
  refine v_icmp_ge F dX8_richest_9 rfl (fun hq1 => ?_) (fun hq1 => ?_)
  · rw [if_pos hq1] at h
    obtain ⟨z, hu, ez⟩ := up_some h
    clear h
    subst ez
    have h := hu
    clear hu
    refine v_iload_n F dX8_richest_71 rfl rfl ?_
    cases h
    cases (show _ = r from K)
    exact v_iret F dX8_richest_72
  · rw [if_neg hq1] at h
    refine v_aload_n F dX8_richest_12 rfl rfl ?_
    refine gf_X8_48 F dX8_richest_13 hp (v := (o + 170)) rfl ?_
    refine v_iload_n F dX8_richest_16 rfl rfl ?_
    obtain ⟨hi2, h⟩ := ck_some h
    refine v_iald F dX8_richest_17 (ar_X8_18 hX hp) hi2 ?_
    obtain ⟨x3, ex3, h⟩ := lv_some h
    refine v_nI ex3 ?_
    refine v_istore_n F dX8_richest_18 rfl (Nat.le_of_ble_eq_true rfl) (L' := [mA o, mI v1, mI v2, mI x3]) rfl ?_
    refine v_aload_n F dX8_richest_19 rfl rfl ?_
    refine gf_X8_72 F dX8_richest_20 hp (v := (o + 187)) rfl ?_
    refine v_iload_n F dX8_richest_23 rfl rfl ?_
    obtain ⟨hi4, h⟩ := ck_some h
    refine v_zald F dX8_richest_24 (ar_X8_28 hX hp) hi4 ?_
    refine v_if_ne F dX8_richest_25 rfl (fun hq5 => ?_) (fun hq5 => ?_)
    · rw [if_neg hq5] at h
      obtain ⟨x6, ex6, h⟩ := lv_some h
      refine v_iincN F dX8_richest_65 (Nat.le_of_ble_eq_true rfl) rfl ex6 (L' := [mA o, mI v1, mI x6, mI x3]) rfl ?_
      refine v_goto F dX8_richest_68 rfl ?_
      cases h
      refine v_fgt (L' := [mA o, mI v1, mI x6, mU]) ⟨Or.inl rfl, Or.inl rfl, Or.inl rfl, Or.inr rfl, trivial⟩ ?_
      exact K
    · rw [if_pos hq5] at h
      refine v_aload_n F dX8_richest_28 rfl rfl ?_
      refine gf_X8_33 F dX8_richest_29 hp (v := (o + 126)) rfl ?_
      refine v_iload_n F dX8_richest_32 rfl rfl ?_
      refine v_lald F dX8_richest_33 (ar_X8_13 hX hp) hi4 ?_
      refine v_aload_n F dX8_richest_34 rfl rfl ?_
      refine gf_X8_280 F dX8_richest_35 hp ?_
      refine v_lcmp F dX8_richest_38 ?_
      refine v_if_le F dX8_richest_39 rfl (fun hq7 => ?_) (fun hq7 => ?_)
      · rw [if_pos hq7] at h
        obtain ⟨x8, ex8, h⟩ := lv_some h
        refine v_iincN F dX8_richest_65 (Nat.le_of_ble_eq_true rfl) rfl ex8 (L' := [mA o, mI v1, mI x8, mI x3]) rfl ?_
        refine v_goto F dX8_richest_68 rfl ?_
        cases h
        refine v_fgt (L' := [mA o, mI v1, mI x8, mU]) ⟨Or.inl rfl, Or.inl rfl, Or.inl rfl, Or.inr rfl, trivial⟩ ?_
        exact K
      · rw [if_neg hq7] at h
        refine v_iload_n F dX8_richest_42 rfl rfl ?_
        refine v_iconst F dX8_richest_43 ⟨by decide, by decide⟩ ?_
        refine v_icmp_eq F dX8_richest_44 rfl (fun hq9 => ?_) (fun hq9 => ?_)
        · rw [if_pos hq9] at h
          refine v_iload_n F dX8_richest_63 rfl rfl ?_
          refine v_istore_n F dX8_richest_64 rfl (Nat.le_of_ble_eq_true rfl) (L' := [mA o, mI x3, mI v2, mI x3]) rfl ?_
          obtain ⟨x10, ex10, h⟩ := lv_some h
          refine v_iincN F dX8_richest_65 (Nat.le_of_ble_eq_true rfl) rfl ex10 (L' := [mA o, mI x3, mI x10, mI x3]) rfl ?_
          refine v_goto F dX8_richest_68 rfl ?_
          cases h
          refine v_fgt (L' := [mA o, mI x3, mI x10, mU]) ⟨Or.inl rfl, Or.inl rfl, Or.inl rfl, Or.inr rfl, trivial⟩ ?_
          exact K
        · rw [if_neg hq9] at h
          refine v_aload_n F dX8_richest_47 rfl rfl ?_
          refine gf_X8_33 F dX8_richest_48 hp (v := (o + 126)) rfl ?_
          refine v_iload_n F dX8_richest_51 rfl rfl ?_
          refine v_lald F dX8_richest_52 (ar_X8_13 hX hp) hi4 ?_
          refine v_aload_n F dX8_richest_53 rfl rfl ?_
          refine gf_X8_33 F dX8_richest_54 hp (v := (o + 126)) rfl ?_
          refine v_iload_n F dX8_richest_57 rfl rfl ?_
          obtain ⟨hi11, h⟩ := ck_some h
          refine v_lald F dX8_richest_58 (ar_X8_13 hX hp) hi11 ?_
          refine v_lcmp F dX8_richest_59 ?_
          refine v_if_le F dX8_richest_60 rfl (fun hq12 => ?_) (fun hq12 => ?_)
          · rw [if_pos hq12] at h
            obtain ⟨x13, ex13, h⟩ := lv_some h
            refine v_iincN F dX8_richest_65 (Nat.le_of_ble_eq_true rfl) rfl ex13 (L' := [mA o, mI v1, mI x13, mI x3]) rfl ?_
            refine v_goto F dX8_richest_68 rfl ?_
            cases h
            refine v_fgt (L' := [mA o, mI v1, mI x13, mU]) ⟨Or.inl rfl, Or.inl rfl, Or.inl rfl, Or.inr rfl, trivial⟩ ?_
            exact K
          · rw [if_neg hq12] at h
            refine v_iload_n F dX8_richest_63 rfl rfl ?_
            refine v_istore_n F dX8_richest_64 rfl (Nat.le_of_ble_eq_true rfl) (L' := [mA o, mI x3, mI v2, mI x3]) rfl ?_
            obtain ⟨x14, ex14, h⟩ := lv_some h
            refine v_iincN F dX8_richest_65 (Nat.le_of_ble_eq_true rfl) rfl ex14 (L' := [mA o, mI x3, mI x14, mI x3]) rfl ?_
            refine v_goto F dX8_richest_68 rfl ?_
            cases h
            refine v_fgt (L' := [mA o, mI x3, mI x14, mU]) ⟨Or.inl rfl, Or.inl rfl, Or.inl rfl, Or.inr rfl, trivial⟩ ?_
            exact K
theorem fX8_richest_4_ok {w : Wd} {l : Launch} {G : Cx} {d m dd : Dt} {o v1 v2 : Int} {r : Int} {x : Int} (F : Fx w G cX8_richest RX8 4 (some .int) { frames := 0, cells := 0, slots := 0, locals := 0 }) (hX : WF dd m) (hp : PB m o 8) (h : fX8_richest_4 d o v1 v2 = some x) (K : (fun q => q = r) x) : V w l WF G (QM w G WF (some (mI r)) d m 0 0) d m 0 0 4 [mA o, mI v1, mI v2, mU] [] := by
  unfold fX8_richest_4 at h
  exact loop_ok (P := fX8_richest_4P w l G (QM w G WF (some (mI r)) d m 0 0) m d o) (fun s x hx h1 h2 => fX8_richest_4f_ok F hX hp hx (by
    cases x with
    | inl s' => exact h1 s' rfl
    | inr z => cases h2 z rfl; exact K)) h
theorem vm_X8_richest {w : Wd} {l : Launch} {d m : Dt} {o : Int} {r : Int} (hp : PB m o 8) (h : fX8_richest d o = some r) : VM w l WF yX8_richest cX8_richest 4 (some .int) 0 0 0 0 d m [mA o] (some (mI r)) d m := by
  obtain ⟨x, h, K⟩ : ∃ x, fX8_richest d o = some x ∧ x = r := ⟨_, h, rfl⟩
  refine VM.of (L := [mA o, mU, mU, mU]) (by decide +kernel) rfl (Nat.le_of_ble_eq_true rfl) fun G F _ => v_fact fun _ hX _ _ => ?_
  unfold fX8_richest at h
  refine v_iconst F dX8_richest_0 ⟨by decide, by decide⟩ ?_
  refine v_istore_n F dX8_richest_1 rfl (Nat.le_of_ble_eq_true rfl) (L' := [mA o, mI (-1), mU, mU]) rfl ?_
  refine v_iconst F dX8_richest_2 ⟨by decide, by decide⟩ ?_
  refine v_istore_n F dX8_richest_3 rfl (Nat.le_of_ble_eq_true rfl) (L' := [mA o, mI (-1), mI 0, mU]) rfl ?_
  exact fX8_richest_4_ok F hX hp h K
def fX8_giveParts_2P (w : Wd) (l : Launch) (G : Cx) (Q : State → Prop) (m : Dt) (o a1 : Int) (s : Dt × Int) : Prop := V w l WF G Q s.1 m 0 0 2 [mA o, mI a1, mI (s.2)] []
theorem fX8_giveParts_2f_ok {w : Wd} {l : Launch} {G : Cx} {m dd : Dt} {o a1 : Int} {d' : Dt} {s : Dt × Int} {x : ((Dt × Int) ⊕ Dt)} (F : Fx w G cX8_giveParts RX8 3 none { frames := 2, cells := 0, slots := 0, locals := 43 }) (hX : WF dd m) (hp : PB m o 8) (h : fX8_giveParts_2f o a1 s = some x) (K : (Sum.elim (fX8_giveParts_2P w l G (QM w G WF none d' m 0 0) m o a1) (fun q => q = d')) x) : V w l WF G (QM w G WF none d' m 0 0) s.1 m 0 0 2 [mA o, mI a1, mI (s.2)] [] := by
  obtain ⟨d, v2⟩ := s
  unfold fX8_giveParts_2f at h
  dsimp only at h
  refine v_iload_n F dX8_giveParts_2 rfl rfl ?_
  refine v_aload_n F dX8_giveParts_3 rfl rfl ?_
  refine gf_X8_155 F dX8_giveParts_4 hp ?_
  refine v_icmp_ge F dX8_giveParts_7 rfl (fun hq1 => ?_) (fun hq1 => ?_)
  · rw [if_pos hq1] at h
    obtain ⟨z, hu, ez⟩ := up_some h
    clear h
    subst ez
    have h := hu
    clear hu
    cases h
    cases (show _ = d' from K)
    exact v_vret F dX8_giveParts_68
  · rw [if_neg hq1] at h
    refine v_aload_n F dX8_giveParts_10 rfl rfl ?_
    refine gf_X8_69 F dX8_giveParts_11 hp (v := (o + 186)) rfl ?_
    refine v_iload_n F dX8_giveParts_14 rfl rfl ?_
    obtain ⟨hi2, h⟩ := ck_some h
    refine v_iald F dX8_giveParts_15 (ar_X8_27 hX hp) hi2 ?_
    refine v_iload_n F dX8_giveParts_16 rfl rfl ?_
    refine v_icmp_ne F dX8_giveParts_17 rfl (fun hq3 => ?_) (fun hq3 => ?_)
    · rw [if_neg hq3] at h
      obtain ⟨x4, ex4, h⟩ := lv_some h
      refine v_iincN F dX8_giveParts_62 (Nat.le_of_ble_eq_true rfl) rfl ex4 (L' := [mA o, mI a1, mI x4]) rfl ?_
      refine v_goto F dX8_giveParts_65 rfl ?_
      cases h
      exact K
    · rw [if_pos hq3] at h
      refine v_aload_n F dX8_giveParts_20 rfl rfl ?_
      refine gf_X8_66 F dX8_giveParts_21 hp (v := (o + 185)) rfl ?_
      refine v_iload_n F dX8_giveParts_24 rfl rfl ?_
      refine v_aload_n F dX8_giveParts_25 rfl rfl ?_
      refine gf_X8_66 F dX8_giveParts_26 hp (v := (o + 185)) rfl ?_
      refine v_iload_n F dX8_giveParts_29 rfl rfl ?_
      refine v_lald F dX8_giveParts_30 (ar_X8_26 hX hp) hi2 ?_
      refine v_aload_n F dX8_giveParts_31 rfl rfl ?_
      refine gf_X8_33 F dX8_giveParts_32 hp (v := (o + 126)) rfl ?_
      refine v_iload_n F dX8_giveParts_35 rfl rfl ?_
      obtain ⟨hi5, h⟩ := ck_some h
      refine v_lald F dX8_giveParts_36 (ar_X8_13 hX hp) hi5 ?_
      refine v_aload_n F dX8_giveParts_37 rfl rfl ?_
      refine gf_X8_280 F dX8_giveParts_38 hp ?_
      refine v_lsub F dX8_giveParts_41 ?_
      refine v_lmul F dX8_giveParts_42 ?_
      refine v_aload_n F dX8_giveParts_43 rfl rfl ?_
      refine gf_X8_33 F dX8_giveParts_44 hp (v := (o + 126)) rfl ?_
      refine v_iload_n F dX8_giveParts_47 rfl rfl ?_
      refine v_lald F dX8_giveParts_48 (ar_X8_13 hX hp) hi5 ?_
      obtain ⟨x6, ex6, h⟩ := lv_some h
      refine v_nL ex6 ?_
      obtain ⟨hz7, h⟩ := ck_some h
      refine v_ldiv F dX8_giveParts_49 hz7 ?_
      obtain ⟨d8, ed8, h⟩ := sd_some h
      refine v_last F dX8_giveParts_50 (ar_X8_26 hX hp) hi2 ?_
      refine v_nD ed8 ?_
      refine v_aload_n F dX8_giveParts_51 rfl rfl ?_
      refine gf_X8_69 F dX8_giveParts_52 hp (v := (o + 186)) rfl ?_
      refine v_iload_n F dX8_giveParts_55 rfl rfl ?_
      refine v_aload_n F dX8_giveParts_56 rfl rfl ?_
      refine v_iload_n F dX8_giveParts_57 rfl rfl ?_
      obtain ⟨x9, hc10, h⟩ := b1_some h
      refine v_callVv (c := 8) F dX8_giveParts_58 cv_X8_263 rfl (PB.ob hp hX (Nat.le_of_ble_eq_true rfl)) (Nat.le_of_ble_eq_true rfl) rfl (vm_X8_nextOn hp hc10) rfl (rOk.of rfl) ?_
      obtain ⟨d11, ed11, h⟩ := sd_some h
      refine v_iast F dX8_giveParts_61 (ar_X8_27 hX hp) hi2 ?_
      refine v_nD ed11 ?_
      obtain ⟨x12, ex12, h⟩ := lv_some h
      refine v_iincN F dX8_giveParts_62 (Nat.le_of_ble_eq_true rfl) rfl ex12 (L' := [mA o, mI a1, mI x12]) rfl ?_
      refine v_goto F dX8_giveParts_65 rfl ?_
      cases h
      exact K
theorem fX8_giveParts_2_ok {w : Wd} {l : Launch} {G : Cx} {d m dd : Dt} {o a1 v2 : Int} {d' : Dt} {x : Dt} (F : Fx w G cX8_giveParts RX8 3 none { frames := 2, cells := 0, slots := 0, locals := 43 }) (hX : WF dd m) (hp : PB m o 8) (h : fX8_giveParts_2 d o a1 v2 = some x) (K : (fun q => q = d') x) : V w l WF G (QM w G WF none d' m 0 0) d m 0 0 2 [mA o, mI a1, mI v2] [] := by
  unfold fX8_giveParts_2 at h
  exact loop_ok (P := fX8_giveParts_2P w l G (QM w G WF none d' m 0 0) m o a1) (fun s x hx h1 h2 => fX8_giveParts_2f_ok F hX hp hx (by
    cases x with
    | inl s' => exact h1 s' rfl
    | inr z => cases h2 z rfl; exact K)) h
theorem vm_X8_giveParts {w : Wd} {l : Launch} {d m : Dt} {o a1 : Int} {d' : Dt} (hp : PB m o 8) (h : fX8_giveParts d o a1 = some d') : VM w l WF yX8_giveParts cX8_giveParts 3 none 2 43 0 0 d m [mA o, mI a1] none d' m := by
  obtain ⟨x, h, K⟩ : ∃ x, fX8_giveParts d o a1 = some x ∧ x = d' := ⟨_, h, rfl⟩
  refine VM.of (L := [mA o, mI a1, mU]) (by decide +kernel) rfl (Nat.le_of_ble_eq_true rfl) fun G F _ => v_fact fun _ hX _ _ => ?_
  unfold fX8_giveParts at h
  refine v_iconst F dX8_giveParts_0 ⟨by decide, by decide⟩ ?_
  refine v_istore_n F dX8_giveParts_1 rfl (Nat.le_of_ble_eq_true rfl) (L' := [mA o, mI a1, mI 0]) rfl ?_
  exact fX8_giveParts_2_ok F hX hp h K
def fX8_giveWhole_7P (w : Wd) (l : Launch) (G : Cx) (Q : State → Prop) (m : Dt) (o a1 : Int) (s : Dt × Int) : Prop := V w l WF G Q s.1 m 0 0 7 [mA o, mI a1, mL (s.2), mU, mU, mU] []
def fX8_giveWhole_41P (w : Wd) (l : Launch) (G : Cx) (Q : State → Prop) (m : Dt) (d : Dt) (o a1 v2 : Int) (s : Int × Int) : Prop := V w l WF G Q d m 0 0 41 [mA o, mI a1, mL v2, mU, mI (s.1), mI (s.2)] []
theorem fX8_giveWhole_75_ok {w : Wd} {l : Launch} {G : Cx} {d m dd : Dt} {o a1 v2 v5 s0 s1 : Int} {d' : Dt} {x : ((Int × Int) ⊕ ((Dt × Int) ⊕ Dt))} (F : Fx w G cX8_giveWhole RX8 6 none { frames := 2, cells := 0, slots := 0, locals := 43 }) (hX : WF dd m) (hp : PB m o 8) (h : fX8_giveWhole_75 d o a1 v2 v5 s0 s1 = some x) (K : (Sum.elim (fX8_giveWhole_41P w l G (QM w G WF none d' m 0 0) m d o a1 v2) (Sum.elim (fX8_giveWhole_7P w l G (QM w G WF none d' m 0 0) m o a1) (fun q => q = d'))) x) : V w l WF G (QM w G WF none d' m 0 0) d m 0 0 75 [mA o, mI a1, mL v2, mU, mU, mI v5] [mI s1, mI s0] := by
  unfold fX8_giveWhole_75 at h
  refine v_isub F dX8_giveWhole_75 ?_
  obtain ⟨x11, ex11, h⟩ := lv_some h
  refine v_nI ex11 ?_
  refine v_istore F dX8_giveWhole_76 (Nat.le_of_ble_eq_true rfl) (L' := [mA o, mI a1, mL v2, mU, mI x11, mI v5]) rfl ?_
  obtain ⟨x12, ex12, h⟩ := lv_some h
  refine v_iincN F dX8_giveWhole_78 (Nat.le_of_ble_eq_true rfl) rfl ex12 (L' := [mA o, mI a1, mL v2, mU, mI x11, mI x12]) rfl ?_
  refine v_goto F dX8_giveWhole_81 rfl ?_
  cases h
  exact K
theorem fX8_giveWhole_57_ok {w : Wd} {l : Launch} {G : Cx} {d m dd : Dt} {o a1 v2 v4 v5 : Int} {d' : Dt} {x : ((Int × Int) ⊕ ((Dt × Int) ⊕ Dt))} (F : Fx w G cX8_giveWhole RX8 6 none { frames := 2, cells := 0, slots := 0, locals := 43 }) (hX : WF dd m) (hp : PB m o 8) (h : fX8_giveWhole_57 d o a1 v2 v4 v5 = some x) (K : (Sum.elim (fX8_giveWhole_41P w l G (QM w G WF none d' m 0 0) m d o a1 v2) (Sum.elim (fX8_giveWhole_7P w l G (QM w G WF none d' m 0 0) m o a1) (fun q => q = d'))) x) : V w l WF G (QM w G WF none d' m 0 0) d m 0 0 57 [mA o, mI a1, mL v2, mU, mI v4, mI v5] [] := by
  unfold fX8_giveWhole_57 at h
  refine v_iload F dX8_giveWhole_57 rfl ?_
  refine v_aload_n F dX8_giveWhole_59 rfl rfl ?_
  refine gf_X8_69 F dX8_giveWhole_60 hp (v := (o + 186)) rfl ?_
  refine v_iload F dX8_giveWhole_63 rfl ?_
  obtain ⟨hi9, h⟩ := ck_some h
  refine v_iald F dX8_giveWhole_65 (ar_X8_27 hX hp) hi9 ?_
  refine v_iload_n F dX8_giveWhole_66 rfl rfl ?_
  refine v_icmp_ne F dX8_giveWhole_67 rfl (fun hq10 => ?_) (fun hq10 => ?_)
  · rw [if_neg hq10] at h
    refine v_iconst F dX8_giveWhole_74 ⟨by decide, by decide⟩ ?_
    refine v_fgt (L' := [mA o, mI a1, mL v2, mU, mU, mI v5]) ⟨Or.inl rfl, Or.inl rfl, Or.inl rfl, Or.inl rfl, Or.inr rfl, Or.inl rfl, trivial⟩ ?_
    exact fX8_giveWhole_75_ok F hX hp h K
  · rw [if_pos hq10] at h
    refine v_iconst F dX8_giveWhole_70 ⟨by decide, by decide⟩ ?_
    refine v_goto F dX8_giveWhole_71 rfl ?_
    refine v_fgt (L' := [mA o, mI a1, mL v2, mU, mU, mI v5]) ⟨Or.inl rfl, Or.inl rfl, Or.inl rfl, Or.inl rfl, Or.inr rfl, Or.inl rfl, trivial⟩ ?_
    exact fX8_giveWhole_75_ok F hX hp h K
theorem fX8_giveWhole_41f_ok {w : Wd} {l : Launch} {G : Cx} {d m dd : Dt} {o a1 v2 : Int} {d' : Dt} {s : Int × Int} {x : ((Int × Int) ⊕ ((Dt × Int) ⊕ Dt))} (F : Fx w G cX8_giveWhole RX8 6 none { frames := 2, cells := 0, slots := 0, locals := 43 }) (hX : WF dd m) (hp : PB m o 8) (h : fX8_giveWhole_41f d o a1 v2 s = some x) (K : (Sum.elim (fX8_giveWhole_41P w l G (QM w G WF none d' m 0 0) m d o a1 v2) (Sum.elim (fX8_giveWhole_7P w l G (QM w G WF none d' m 0 0) m o a1) (fun q => q = d'))) x) : V w l WF G (QM w G WF none d' m 0 0) d m 0 0 41 [mA o, mI a1, mL v2, mU, mI (s.1), mI (s.2)] [] := by
  obtain ⟨v4, v5⟩ := s
  unfold fX8_giveWhole_41f at h
  dsimp only at h
  refine v_aload_n F dX8_giveWhole_41 rfl rfl ?_
  refine gf_X8_69 F dX8_giveWhole_42 hp (v := (o + 186)) rfl ?_
  refine v_iload F dX8_giveWhole_45 rfl ?_
  obtain ⟨hi7, h⟩ := ck_some h
  refine v_iald F dX8_giveWhole_47 (ar_X8_27 hX hp) hi7 ?_
  refine v_iload_n F dX8_giveWhole_48 rfl rfl ?_
  refine v_icmp_ne F dX8_giveWhole_49 rfl (fun hq8 => ?_) (fun hq8 => ?_)
  · rw [if_neg hq8] at h
    exact fX8_giveWhole_57_ok F hX hp h K
  · rw [if_pos hq8] at h
    refine v_iload F dX8_giveWhole_52 rfl ?_
    refine v_if_le F dX8_giveWhole_54 rfl (fun hq13 => ?_) (fun hq13 => ?_)
    · rw [if_pos hq13] at h
      obtain ⟨z, hu, ez⟩ := up_some h
      clear h
      subst ez
      have h := hu
      clear hu
      refine v_aload_n F dX8_giveWhole_84 rfl rfl ?_
      refine gf_X8_69 F dX8_giveWhole_85 hp (v := (o + 186)) rfl ?_
      refine v_iload F dX8_giveWhole_88 rfl ?_
      refine v_aload_n F dX8_giveWhole_90 rfl rfl ?_
      refine v_iload F dX8_giveWhole_91 rfl ?_
      obtain ⟨x14, hc15, h⟩ := b1_some h
      refine v_callVv (c := 8) F dX8_giveWhole_93 cv_X8_263 rfl (PB.ob hp hX (Nat.le_of_ble_eq_true rfl)) (Nat.le_of_ble_eq_true rfl) rfl (vm_X8_nextOn hp hc15) rfl (rOk.of rfl) ?_
      obtain ⟨d16, ed16, h⟩ := sd_some h
      refine v_iast F dX8_giveWhole_96 (ar_X8_27 hX hp) hi7 ?_
      refine v_nD ed16 ?_
      refine v_lload_n F dX8_giveWhole_97 rfl rfl ?_
      refine v_lconst1 F dX8_giveWhole_98 ?_
      refine v_lsub F dX8_giveWhole_99 ?_
      obtain ⟨x17, ex17, h⟩ := lv_some h
      refine v_nL ex17 ?_
      refine v_lstore_n F dX8_giveWhole_100 rfl (Nat.le_of_ble_eq_true rfl) (L' := [mA o, mI a1, mL x17, mU, mI v4, mI v5]) rfl ?_
      refine v_goto F dX8_giveWhole_101 rfl ?_
      cases h
      refine v_fgt (L' := [mA o, mI a1, mL x17, mU, mU, mU]) ⟨Or.inl rfl, Or.inl rfl, Or.inl rfl, Or.inl rfl, Or.inr rfl, Or.inr rfl, trivial⟩ ?_
      exact K
    · rw [if_neg hq13] at h
      exact fX8_giveWhole_57_ok F hX hp h K
theorem fX8_giveWhole_41_ok {w : Wd} {l : Launch} {G : Cx} {d m dd : Dt} {o a1 v2 v4 v5 : Int} {d' : Dt} {x : ((Dt × Int) ⊕ Dt)} (F : Fx w G cX8_giveWhole RX8 6 none { frames := 2, cells := 0, slots := 0, locals := 43 }) (hX : WF dd m) (hp : PB m o 8) (h : fX8_giveWhole_41 d o a1 v2 v4 v5 = some x) (K : (Sum.elim (fX8_giveWhole_7P w l G (QM w G WF none d' m 0 0) m o a1) (fun q => q = d')) x) : V w l WF G (QM w G WF none d' m 0 0) d m 0 0 41 [mA o, mI a1, mL v2, mU, mI v4, mI v5] [] := by
  unfold fX8_giveWhole_41 at h
  exact loop_ok (P := fX8_giveWhole_41P w l G (QM w G WF none d' m 0 0) m d o a1 v2) (fun s x hx h1 h2 => fX8_giveWhole_41f_ok F hX hp hx (by
    cases x with
    | inl s' => exact h1 s' rfl
    | inr z => cases h2 z rfl; exact K)) h
theorem fX8_giveWhole_7f_ok {w : Wd} {l : Launch} {G : Cx} {m dd : Dt} {o a1 : Int} {d' : Dt} {s : Dt × Int} {x : ((Dt × Int) ⊕ Dt)} (F : Fx w G cX8_giveWhole RX8 6 none { frames := 2, cells := 0, slots := 0, locals := 43 }) (hX : WF dd m) (hp : PB m o 8) (h : fX8_giveWhole_7f o a1 s = some x) (K : (Sum.elim (fX8_giveWhole_7P w l G (QM w G WF none d' m 0 0) m o a1) (fun q => q = d')) x) : V w l WF G (QM w G WF none d' m 0 0) s.1 m 0 0 7 [mA o, mI a1, mL (s.2), mU, mU, mU] [] := by
  obtain ⟨d, v2⟩ := s
  unfold fX8_giveWhole_7f at h
  dsimp only at h
  refine v_lload_n F dX8_giveWhole_7 rfl rfl ?_
  refine v_aload_n F dX8_giveWhole_8 rfl rfl ?_
  refine gf_X8_280 F dX8_giveWhole_9 hp ?_
  refine v_lcmp F dX8_giveWhole_12 ?_
  refine v_if_le F dX8_giveWhole_13 rfl (fun hq3 => ?_) (fun hq3 => ?_)
  · rw [if_pos hq3] at h
    obtain ⟨z, hu, ez⟩ := up_some h
    clear h
    subst ez
    have h := hu
    clear hu
    cases h
    cases (show _ = d' from K)
    exact v_vret F dX8_giveWhole_104
  · rw [if_neg hq3] at h
    refine v_aload_n F dX8_giveWhole_16 rfl rfl ?_
    refine v_aload_n F dX8_giveWhole_17 rfl rfl ?_
    refine gf_X8_284 F dX8_giveWhole_18 hp ?_
    refine v_callSv F dX8_giveWhole_21 cs_X8_290 rfl (vm_X0_stepped) rfl (rOk.of rfl) ?_
    obtain ⟨d4, ed4, h⟩ := sd_some h
    refine pf_X8_284 F dX8_giveWhole_24 hp ?_
    refine v_nD ed4 ?_
    refine v_aload_n F dX8_giveWhole_27 rfl rfl ?_
    refine gf_X8_284 F dX8_giveWhole_28 hp ?_
    refine v_lload_n F dX8_giveWhole_31 rfl rfl ?_
    refine v_l2i F dX8_giveWhole_32 ?_
    obtain ⟨x5, hc6, h⟩ := b1_some h
    refine v_callSv F dX8_giveWhole_33 cs_X8_294 rfl (vm_X0_placeOf hc6) rfl (rOk.of rfl) ?_
    refine v_istore F dX8_giveWhole_36 (Nat.le_of_ble_eq_true rfl) (L' := [mA o, mI a1, mL v2, mU, mI x5, mU]) rfl ?_
    refine v_iconst F dX8_giveWhole_38 ⟨by decide, by decide⟩ ?_
    refine v_istore F dX8_giveWhole_39 (Nat.le_of_ble_eq_true rfl) (L' := [mA o, mI a1, mL v2, mU, mI x5, mI 0]) rfl ?_
    exact fX8_giveWhole_41_ok F hX hp h K
theorem fX8_giveWhole_7_ok {w : Wd} {l : Launch} {G : Cx} {d m dd : Dt} {o a1 v2 : Int} {d' : Dt} {x : Dt} (F : Fx w G cX8_giveWhole RX8 6 none { frames := 2, cells := 0, slots := 0, locals := 43 }) (hX : WF dd m) (hp : PB m o 8) (h : fX8_giveWhole_7 d o a1 v2 = some x) (K : (fun q => q = d') x) : V w l WF G (QM w G WF none d' m 0 0) d m 0 0 7 [mA o, mI a1, mL v2, mU, mU, mU] [] := by
  unfold fX8_giveWhole_7 at h
  exact loop_ok (P := fX8_giveWhole_7P w l G (QM w G WF none d' m 0 0) m o a1) (fun s x hx h1 h2 => fX8_giveWhole_7f_ok F hX hp hx (by
    cases x with
    | inl s' => exact h1 s' rfl
    | inr z => cases h2 z rfl; exact K)) h
theorem vm_X8_giveWhole {w : Wd} {l : Launch} {d m : Dt} {o a1 : Int} {d' : Dt} (hp : PB m o 8) (h : fX8_giveWhole d o a1 = some d') : VM w l WF yX8_giveWhole cX8_giveWhole 6 none 2 43 0 0 d m [mA o, mI a1] none d' m := by
  obtain ⟨x, h, K⟩ : ∃ x, fX8_giveWhole d o a1 = some x ∧ x = d' := ⟨_, h, rfl⟩
  refine VM.of (L := [mA o, mI a1, mU, mU, mU, mU]) (by decide +kernel) rfl (Nat.le_of_ble_eq_true rfl) fun G F _ => v_fact fun _ hX _ _ => ?_
  unfold fX8_giveWhole at h
  refine v_aload_n F dX8_giveWhole_0 rfl rfl ?_
  refine gf_X8_33 F dX8_giveWhole_1 hp (v := (o + 126)) rfl ?_
  refine v_iload_n F dX8_giveWhole_4 rfl rfl ?_
  obtain ⟨hi1, h⟩ := ck_some h
  refine v_lald F dX8_giveWhole_5 (ar_X8_13 hX hp) hi1 ?_
  obtain ⟨x2, ex2, h⟩ := lv_some h
  refine v_nL ex2 ?_
  refine v_lstore_n F dX8_giveWhole_6 rfl (Nat.le_of_ble_eq_true rfl) (L' := [mA o, mI a1, mL x2, mU, mU, mU]) rfl ?_
  exact fX8_giveWhole_7_ok F hX hp h K
def fX8_give_38P (w : Wd) (l : Launch) (G : Cx) (Q : State → Prop) (m : Dt) (o a1 : Int) (s : Dt × Int) : Prop := V w l WF G Q s.1 m 0 0 38 [mA o, mI a1, mI (s.2)] []
theorem fX8_give_71_ok {w : Wd} {l : Launch} {G : Cx} {d m dd : Dt} {o a1 v2 s1 s2 : Int} {d' : Dt} {x : ((Dt × Int) ⊕ Dt)} (F : Fx w G cX8_give RX8 3 none { frames := 3, cells := 0, slots := 0, locals := 68 }) (hX : WF dd m) (hp : PB m o 8) (h : fX8_give_71 d o a1 v2 s1 s2 = some x) (K : (Sum.elim (fX8_give_38P w l G (QM w G WF none d' m 0 0) m o a1) (fun q => q = d')) x) : V w l WF G (QM w G WF none d' m 0 0) d m 0 0 71 [mA o, mI a1, mI v2] [mI s2, mI s1, mA (o + 186)] := by
  unfold fX8_give_71 at h
  obtain ⟨hi14, h⟩ := ck_some h
  obtain ⟨d15, ed15, h⟩ := sd_some h
  refine v_iast F dX8_give_71 (ar_X8_27 hX hp) hi14 ?_
  refine v_nD ed15 ?_
  obtain ⟨x16, ex16, h⟩ := lv_some h
  refine v_iincN F dX8_give_72 (Nat.le_of_ble_eq_true rfl) rfl ex16 (L' := [mA o, mI a1, mI x16]) rfl ?_
  refine v_goto F dX8_give_75 rfl ?_
  cases h
  exact K
theorem fX8_give_38f_ok {w : Wd} {l : Launch} {G : Cx} {m dd : Dt} {o a1 : Int} {d' : Dt} {s : Dt × Int} {x : ((Dt × Int) ⊕ Dt)} (F : Fx w G cX8_give RX8 3 none { frames := 3, cells := 0, slots := 0, locals := 68 }) (hX : WF dd m) (hp : PB m o 8) (h : fX8_give_38f o a1 s = some x) (K : (Sum.elim (fX8_give_38P w l G (QM w G WF none d' m 0 0) m o a1) (fun q => q = d')) x) : V w l WF G (QM w G WF none d' m 0 0) s.1 m 0 0 38 [mA o, mI a1, mI (s.2)] [] := by
  obtain ⟨d, v2⟩ := s
  unfold fX8_give_38f at h
  dsimp only at h
  refine v_iload_n F dX8_give_38 rfl rfl ?_
  refine v_aload_n F dX8_give_39 rfl rfl ?_
  refine gf_X8_155 F dX8_give_40 hp ?_
  refine v_icmp_ge F dX8_give_43 rfl (fun hq9 => ?_) (fun hq9 => ?_)
  · rw [if_pos hq9] at h
    obtain ⟨z, hu, ez⟩ := up_some h
    clear h
    subst ez
    have h := hu
    clear hu
    refine v_aload_n F dX8_give_78 rfl rfl ?_
    refine gf_X8_72 F dX8_give_79 hp (v := (o + 187)) rfl ?_
    refine v_iload_n F dX8_give_82 rfl rfl ?_
    refine v_iconst F dX8_give_83 ⟨by decide, by decide⟩ ?_
    obtain ⟨hi10, h⟩ := ck_some h
    obtain ⟨d11, ed11, h⟩ := sd_some h
    refine v_zast F dX8_give_84 (ar_X8_28 hX hp) hi10 ?_
    refine v_nD ed11 ?_
    cases h
    cases (show _ = d' from K)
    exact v_vret F dX8_give_85
  · rw [if_neg hq9] at h
    refine v_aload_n F dX8_give_46 rfl rfl ?_
    refine gf_X8_69 F dX8_give_47 hp (v := (o + 186)) rfl ?_
    refine v_iload_n F dX8_give_50 rfl rfl ?_
    refine v_aload_n F dX8_give_51 rfl rfl ?_
    refine gf_X8_69 F dX8_give_52 hp (v := (o + 186)) rfl ?_
    refine v_iload_n F dX8_give_55 rfl rfl ?_
    obtain ⟨hi12, h⟩ := ck_some h
    refine v_iald F dX8_give_56 (ar_X8_27 hX hp) hi12 ?_
    refine v_iload_n F dX8_give_57 rfl rfl ?_
    refine v_icmp_ne F dX8_give_58 rfl (fun hq13 => ?_) (fun hq13 => ?_)
    · rw [if_neg hq13] at h
      refine v_aload_n F dX8_give_65 rfl rfl ?_
      refine gf_X8_69 F dX8_give_66 hp (v := (o + 186)) rfl ?_
      refine v_iload_n F dX8_give_69 rfl rfl ?_
      refine v_iald F dX8_give_70 (ar_X8_27 hX hp) hi12 ?_
      exact fX8_give_71_ok F hX hp h K
    · rw [if_pos hq13] at h
      refine v_iconst F dX8_give_61 ⟨by decide, by decide⟩ ?_
      refine v_goto F dX8_give_62 rfl ?_
      exact fX8_give_71_ok F hX hp h K
theorem fX8_give_38_ok {w : Wd} {l : Launch} {G : Cx} {d m dd : Dt} {o a1 v2 : Int} {d' : Dt} {x : Dt} (F : Fx w G cX8_give RX8 3 none { frames := 3, cells := 0, slots := 0, locals := 68 }) (hX : WF dd m) (hp : PB m o 8) (h : fX8_give_38 d o a1 v2 = some x) (K : (fun q => q = d') x) : V w l WF G (QM w G WF none d' m 0 0) d m 0 0 38 [mA o, mI a1, mI v2] [] := by
  unfold fX8_give_38 at h
  exact loop_ok (P := fX8_give_38P w l G (QM w G WF none d' m 0 0) m o a1) (fun s x hx h1 h2 => fX8_give_38f_ok F hX hp hx (by
    cases x with
    | inl s' => exact h1 s' rfl
    | inr z => cases h2 z rfl; exact K)) h
theorem vm_X8_give {w : Wd} {l : Launch} {d m : Dt} {o a1 : Int} {d' : Dt} (hp : PB m o 8) (h : fX8_give d o a1 = some d') : VM w l WF yX8_give cX8_give 3 none 3 68 0 0 d m [mA o, mI a1] none d' m := by
  obtain ⟨x, h, K⟩ : ∃ x, fX8_give d o a1 = some x ∧ x = d' := ⟨_, h, rfl⟩
  refine VM.of (L := [mA o, mI a1, mU]) (by decide +kernel) rfl (Nat.le_of_ble_eq_true rfl) fun G F _ => v_fact fun _ hX _ _ => ?_
  unfold fX8_give at h
  refine v_aload_n F dX8_give_0 rfl rfl ?_
  refine v_iconst F dX8_give_1 ⟨by decide, by decide⟩ ?_
  refine v_iload_n F dX8_give_2 rfl rfl ?_
  obtain ⟨d1, hc2, h⟩ := bd_some h
  refine v_callV0 (c := 8) F dX8_give_3 cv_X8_235 rfl (PB.ob hp hX (Nat.le_of_ble_eq_true rfl)) (Nat.le_of_ble_eq_true rfl) rfl (vm_X8_act hp hc2) rfl (rOk.of rfl) ?_
  refine v_aload_n F dX8_give_6 rfl rfl ?_
  obtain ⟨x3, ex3, h⟩ := lv_some h
  obtain ⟨hn5, h⟩ := ck_some h
  refine gf_X8_131 F dX8_give_7 hp ex3 fun hr4 => ?_
  have x3p := hr4.resolve_left hn5
  refine gf_X8_180 F dX8_give_10 x3p ?_
  refine v_bipush F dX8_give_13 rfl ⟨by decide, by decide⟩ ?_
  refine v_icmp_ne F dX8_give_15 rfl (fun hq6 => ?_) (fun hq6 => ?_)
  · rw [if_neg hq6] at h
    refine v_aload_n F dX8_give_31 rfl rfl ?_
    refine v_iload_n F dX8_give_32 rfl rfl ?_
    obtain ⟨d7, hc8, h⟩ := bd_some h
    refine v_callV0 (c := 8) F dX8_give_33 cv_X8_301 rfl (PB.ob hp hX (Nat.le_of_ble_eq_true rfl)) (Nat.le_of_ble_eq_true rfl) rfl (vm_X8_giveWhole hp hc8) rfl (rOk.of rfl) ?_
    refine v_iconst F dX8_give_36 ⟨by decide, by decide⟩ ?_
    refine v_istore_n F dX8_give_37 rfl (Nat.le_of_ble_eq_true rfl) (L' := [mA o, mI a1, mI 0]) rfl ?_
    exact fX8_give_38_ok F hX hp h K
  · rw [if_pos hq6] at h
    refine v_aload_n F dX8_give_18 rfl rfl ?_
    refine v_iload_n F dX8_give_19 rfl rfl ?_
    obtain ⟨d17, hc18, h⟩ := bd_some h
    refine v_callV0 (c := 8) F dX8_give_20 cv_X8_298 rfl (PB.ob hp hX (Nat.le_of_ble_eq_true rfl)) (Nat.le_of_ble_eq_true rfl) rfl (vm_X8_giveParts hp hc18) rfl (rOk.of rfl) ?_
    refine v_aload_n F dX8_give_23 rfl rfl ?_
    refine gf_X8_72 F dX8_give_24 hp (v := (o + 187)) rfl ?_
    refine v_iload_n F dX8_give_27 rfl rfl ?_
    refine v_iconst F dX8_give_28 ⟨by decide, by decide⟩ ?_
    obtain ⟨hi19, h⟩ := ck_some h
    obtain ⟨d20, ed20, h⟩ := sd_some h
    refine v_zast F dX8_give_29 (ar_X8_28 hX hp) hi19 ?_
    refine v_nD ed20 ?_
    cases h
    cases (show _ = d' from K)
    exact v_vret F dX8_give_30
def fX8_leave_7P (w : Wd) (l : Launch) (G : Cx) (Q : State → Prop) (m : Dt) (o a1 : Int) (s : Dt × Int) : Prop := V w l WF G Q s.1 m 0 0 7 [mA o, mI a1, mI (s.2)] []
theorem fX8_leave_44_ok {w : Wd} {l : Launch} {G : Cx} {d m dd : Dt} {o a1 v2 s1 s2 : Int} {d' : Dt} {x : ((Dt × Int) ⊕ Dt)} (F : Fx w G cX8_leave RX8 3 none { frames := 2, cells := 0, slots := 0, locals := 43 }) (hX : WF dd m) (hp : PB m o 8) (h : fX8_leave_44 d o a1 v2 s1 s2 = some x) (K : (Sum.elim (fX8_leave_7P w l G (QM w G WF none d' m 0 0) m o a1) (fun q => q = d')) x) : V w l WF G (QM w G WF none d' m 0 0) d m 0 0 44 [mA o, mI a1, mI v2] [mI s2, mI s1, mA (o + 186)] := by
  unfold fX8_leave_44 at h
  obtain ⟨hi6, h⟩ := ck_some h
  obtain ⟨d7, ed7, h⟩ := sd_some h
  refine v_iast F dX8_leave_44 (ar_X8_27 hX hp) hi6 ?_
  refine v_nD ed7 ?_
  obtain ⟨x8, ex8, h⟩ := lv_some h
  refine v_iincN F dX8_leave_45 (Nat.le_of_ble_eq_true rfl) rfl ex8 (L' := [mA o, mI a1, mI x8]) rfl ?_
  refine v_goto F dX8_leave_48 rfl ?_
  cases h
  exact K
theorem fX8_leave_7f_ok {w : Wd} {l : Launch} {G : Cx} {m dd : Dt} {o a1 : Int} {d' : Dt} {s : Dt × Int} {x : ((Dt × Int) ⊕ Dt)} (F : Fx w G cX8_leave RX8 3 none { frames := 2, cells := 0, slots := 0, locals := 43 }) (hX : WF dd m) (hp : PB m o 8) (h : fX8_leave_7f o a1 s = some x) (K : (Sum.elim (fX8_leave_7P w l G (QM w G WF none d' m 0 0) m o a1) (fun q => q = d')) x) : V w l WF G (QM w G WF none d' m 0 0) s.1 m 0 0 7 [mA o, mI a1, mI (s.2)] [] := by
  obtain ⟨d, v2⟩ := s
  unfold fX8_leave_7f at h
  dsimp only at h
  refine v_iload_n F dX8_leave_7 rfl rfl ?_
  refine v_aload_n F dX8_leave_8 rfl rfl ?_
  refine gf_X8_155 F dX8_leave_9 hp ?_
  refine v_icmp_ge F dX8_leave_12 rfl (fun hq3 => ?_) (fun hq3 => ?_)
  · rw [if_pos hq3] at h
    obtain ⟨z, hu, ez⟩ := up_some h
    clear h
    subst ez
    have h := hu
    clear hu
    cases h
    cases (show _ = d' from K)
    exact v_vret F dX8_leave_51
  · rw [if_neg hq3] at h
    refine v_aload_n F dX8_leave_15 rfl rfl ?_
    refine gf_X8_69 F dX8_leave_16 hp (v := (o + 186)) rfl ?_
    refine v_iload_n F dX8_leave_19 rfl rfl ?_
    refine v_aload_n F dX8_leave_20 rfl rfl ?_
    refine gf_X8_69 F dX8_leave_21 hp (v := (o + 186)) rfl ?_
    refine v_iload_n F dX8_leave_24 rfl rfl ?_
    obtain ⟨hi4, h⟩ := ck_some h
    refine v_iald F dX8_leave_25 (ar_X8_27 hX hp) hi4 ?_
    refine v_iload_n F dX8_leave_26 rfl rfl ?_
    refine v_icmp_ne F dX8_leave_27 rfl (fun hq5 => ?_) (fun hq5 => ?_)
    · rw [if_neg hq5] at h
      refine v_aload_n F dX8_leave_38 rfl rfl ?_
      refine gf_X8_69 F dX8_leave_39 hp (v := (o + 186)) rfl ?_
      refine v_iload_n F dX8_leave_42 rfl rfl ?_
      refine v_iald F dX8_leave_43 (ar_X8_27 hX hp) hi4 ?_
      exact fX8_leave_44_ok F hX hp h K
    · rw [if_pos hq5] at h
      refine v_aload_n F dX8_leave_30 rfl rfl ?_
      refine v_iload_n F dX8_leave_31 rfl rfl ?_
      obtain ⟨x9, hc10, h⟩ := b1_some h
      refine v_callVv (c := 8) F dX8_leave_32 cv_X8_263 rfl (PB.ob hp hX (Nat.le_of_ble_eq_true rfl)) (Nat.le_of_ble_eq_true rfl) rfl (vm_X8_nextOn hp hc10) rfl (rOk.of rfl) ?_
      refine v_goto F dX8_leave_35 rfl ?_
      exact fX8_leave_44_ok F hX hp h K
theorem fX8_leave_7_ok {w : Wd} {l : Launch} {G : Cx} {d m dd : Dt} {o a1 v2 : Int} {d' : Dt} {x : Dt} (F : Fx w G cX8_leave RX8 3 none { frames := 2, cells := 0, slots := 0, locals := 43 }) (hX : WF dd m) (hp : PB m o 8) (h : fX8_leave_7 d o a1 v2 = some x) (K : (fun q => q = d') x) : V w l WF G (QM w G WF none d' m 0 0) d m 0 0 7 [mA o, mI a1, mI v2] [] := by
  unfold fX8_leave_7 at h
  exact loop_ok (P := fX8_leave_7P w l G (QM w G WF none d' m 0 0) m o a1) (fun s x hx h1 h2 => fX8_leave_7f_ok F hX hp hx (by
    cases x with
    | inl s' => exact h1 s' rfl
    | inr z => cases h2 z rfl; exact K)) h
theorem vm_X8_leave {w : Wd} {l : Launch} {d m : Dt} {o a1 : Int} {d' : Dt} (hp : PB m o 8) (h : fX8_leave d o a1 = some d') : VM w l WF yX8_leave cX8_leave 3 none 2 43 0 0 d m [mA o, mI a1] none d' m := by
  obtain ⟨x, h, K⟩ : ∃ x, fX8_leave d o a1 = some x ∧ x = d' := ⟨_, h, rfl⟩
  refine VM.of (L := [mA o, mI a1, mU]) (by decide +kernel) rfl (Nat.le_of_ble_eq_true rfl) fun G F _ => v_fact fun _ hX _ _ => ?_
  unfold fX8_leave at h
  refine v_aload_n F dX8_leave_0 rfl rfl ?_
  refine v_iload_n F dX8_leave_1 rfl rfl ?_
  obtain ⟨d1, hc2, h⟩ := bd_some h
  refine v_callV0 (c := 8) F dX8_leave_2 cv_X8_272 rfl (PB.ob hp hX (Nat.le_of_ble_eq_true rfl)) (Nat.le_of_ble_eq_true rfl) rfl (vm_X8_goes hp hc2) rfl (rOk.of rfl) ?_
  refine v_iconst F dX8_leave_5 ⟨by decide, by decide⟩ ?_
  refine v_istore_n F dX8_leave_6 rfl (Nat.le_of_ble_eq_true rfl) (L' := [mA o, mI a1, mI 0]) rfl ?_
  exact fX8_leave_7_ok F hX hp h K
def fX8_byTransfers_6P (w : Wd) (l : Launch) (G : Cx) (Q : State → Prop) (m : Dt) (o : Int) (s : Dt × Int) : Prop := V w l WF G Q s.1 m 0 0 6 [mA o, mI (s.2), mU, mU] []
theorem fX8_byTransfers_39_ok {w : Wd} {l : Launch} {G : Cx} {d m dd : Dt} {o s0 : Int} {d' : Dt} {x : ((Dt × Int) ⊕ Dt)} (F : Fx w G cX8_byTransfers RX8 4 none { frames := 4, cells := 0, slots := 0, locals := 91 }) (hX : WF dd m) (hp : PB m o 8) (h : fX8_byTransfers_39 d o s0 = some x) (K : (Sum.elim (fX8_byTransfers_6P w l G (QM w G WF none d' m 0 0) m o) (fun q => q = d')) x) : V w l WF G (QM w G WF none d' m 0 0) d m 0 0 39 [mA o, mU, mU, mU] [mI s0] := by
  unfold fX8_byTransfers_39 at h
  refine v_istore_n F dX8_byTransfers_39 rfl (Nat.le_of_ble_eq_true rfl) (L' := [mA o, mI s0, mU, mU]) rfl ?_
  refine v_iload_n F dX8_byTransfers_40 rfl rfl ?_
  refine v_if_eq F dX8_byTransfers_41 rfl (fun hq15 => ?_) (fun hq15 => ?_)
  · rw [if_pos hq15] at h
    refine v_goto F dX8_byTransfers_70 rfl ?_
    cases h
    exact K
  · rw [if_neg hq15] at h
    refine v_aload_n F dX8_byTransfers_44 rfl rfl ?_
    obtain ⟨x16, hc17, h⟩ := b1_some h
    refine v_callVv (c := 8) F dX8_byTransfers_45 cv_X8_313 rfl (PB.ob hp hX (Nat.le_of_ble_eq_true rfl)) (Nat.le_of_ble_eq_true rfl) rfl (vm_X8_richest hp hc17) rfl (rOk.of rfl) ?_
    refine v_istore_n F dX8_byTransfers_48 rfl (Nat.le_of_ble_eq_true rfl) (L' := [mA o, mI s0, mU, mI x16]) rfl ?_
    refine v_iload_n F dX8_byTransfers_49 rfl rfl ?_
    refine v_iconst F dX8_byTransfers_50 ⟨by decide, by decide⟩ ?_
    refine v_icmp_eq F dX8_byTransfers_51 rfl (fun hq18 => ?_) (fun hq18 => ?_)
    · rw [if_pos hq18] at h
      refine v_aload_n F dX8_byTransfers_62 rfl rfl ?_
      refine v_aload_n F dX8_byTransfers_63 rfl rfl ?_
      obtain ⟨x19, hc20, h⟩ := b1_some h
      refine v_callVv (c := 8) F dX8_byTransfers_64 cv_X8_269 rfl (PB.ob hp hX (Nat.le_of_ble_eq_true rfl)) (Nat.le_of_ble_eq_true rfl) rfl (vm_X8_fewest hp hc20) rfl (rOk.of rfl) ?_
      obtain ⟨d21, hc22, h⟩ := bd_some h
      refine v_callV0 (c := 8) F dX8_byTransfers_67 cv_X8_319 rfl (PB.ob hp hX (Nat.le_of_ble_eq_true rfl)) (Nat.le_of_ble_eq_true rfl) rfl (vm_X8_leave hp hc22) rfl (rOk.of rfl) ?_
      refine v_goto F dX8_byTransfers_70 rfl ?_
      cases h
      refine v_fgt (L' := [mA o, mI s0, mU, mU]) ⟨Or.inl rfl, Or.inl rfl, Or.inl rfl, Or.inr rfl, trivial⟩ ?_
      exact K
    · rw [if_neg hq18] at h
      refine v_aload_n F dX8_byTransfers_54 rfl rfl ?_
      refine v_iload_n F dX8_byTransfers_55 rfl rfl ?_
      obtain ⟨d23, hc24, h⟩ := bd_some h
      refine v_callV0 (c := 8) F dX8_byTransfers_56 cv_X8_316 rfl (PB.ob hp hX (Nat.le_of_ble_eq_true rfl)) (Nat.le_of_ble_eq_true rfl) rfl (vm_X8_give hp hc24) rfl (rOk.of rfl) ?_
      refine v_goto F dX8_byTransfers_59 rfl ?_
      refine v_goto F dX8_byTransfers_70 rfl ?_
      cases h
      refine v_fgt (L' := [mA o, mI s0, mU, mU]) ⟨Or.inl rfl, Or.inl rfl, Or.inl rfl, Or.inr rfl, trivial⟩ ?_
      exact K
theorem fX8_byTransfers_6f_ok {w : Wd} {l : Launch} {G : Cx} {m dd : Dt} {o : Int} {d' : Dt} {s : Dt × Int} {x : ((Dt × Int) ⊕ Dt)} (F : Fx w G cX8_byTransfers RX8 4 none { frames := 4, cells := 0, slots := 0, locals := 91 }) (hX : WF dd m) (hp : PB m o 8) (h : fX8_byTransfers_6f o s = some x) (K : (Sum.elim (fX8_byTransfers_6P w l G (QM w G WF none d' m 0 0) m o) (fun q => q = d')) x) : V w l WF G (QM w G WF none d' m 0 0) s.1 m 0 0 6 [mA o, mI (s.2), mU, mU] [] := by
  obtain ⟨d, v1⟩ := s
  unfold fX8_byTransfers_6f at h
  dsimp only at h
  refine v_iload_n F dX8_byTransfers_6 rfl rfl ?_
  refine v_if_eq F dX8_byTransfers_7 rfl (fun hq3 => ?_) (fun hq3 => ?_)
  · rw [if_pos hq3] at h
    obtain ⟨z, hu, ez⟩ := up_some h
    clear h
    subst ez
    have h := hu
    clear hu
    cases h
    cases (show _ = d' from K)
    exact v_vret F dX8_byTransfers_73
  · rw [if_neg hq3] at h
    refine v_aload_n F dX8_byTransfers_10 rfl rfl ?_
    obtain ⟨d4, hc5, h⟩ := bd_some h
    refine v_callV0 (c := 8) F dX8_byTransfers_11 cv_X8_307 rfl (PB.ob hp hX (Nat.le_of_ble_eq_true rfl)) (Nat.le_of_ble_eq_true rfl) rfl (vm_X8_weigh hp hc5) rfl (rOk.of rfl) ?_
    refine v_aload_n F dX8_byTransfers_14 rfl rfl ?_
    obtain ⟨d6, hc7, h⟩ := bd_some h
    refine v_callV0 (c := 8) F dX8_byTransfers_15 cv_X8_254 rfl (PB.ob hp hX (Nat.le_of_ble_eq_true rfl)) (Nat.le_of_ble_eq_true rfl) rfl (vm_X8_tell hp hc7) rfl (rOk.of rfl) ?_
    refine v_aload_n F dX8_byTransfers_18 rfl rfl ?_
    refine v_aload_n F dX8_byTransfers_19 rfl rfl ?_
    refine gf_X8_280 F dX8_byTransfers_20 hp ?_
    obtain ⟨d8, x10, hc9, h⟩ := b2_some h
    refine v_callVv (c := 8) F dX8_byTransfers_23 cv_X8_227 rfl (PB.ob hp hX (Nat.le_of_ble_eq_true rfl)) (Nat.le_of_ble_eq_true rfl) rfl (vm_X8_electAll hp hc9) rfl (rOk.of rfl) ?_
    refine v_istore_n F dX8_byTransfers_26 rfl (Nat.le_of_ble_eq_true rfl) (L' := [mA o, mI v1, mI x10, mU]) rfl ?_
    refine v_aload_n F dX8_byTransfers_27 rfl rfl ?_
    obtain ⟨d11, x13, hc12, h⟩ := b2_some h
    refine v_callVv (c := 8) F dX8_byTransfers_28 cv_X8_310 rfl (PB.ob hp hX (Nat.le_of_ble_eq_true rfl)) (Nat.le_of_ble_eq_true rfl) rfl (vm_X8_ends hp hc12) rfl (rOk.of rfl) ?_
    refine v_if_ne F dX8_byTransfers_31 rfl (fun hq14 => ?_) (fun hq14 => ?_)
    · rw [if_neg hq14] at h
      refine v_iconst F dX8_byTransfers_38 ⟨by decide, by decide⟩ ?_
      refine v_fgt (L' := [mA o, mU, mU, mU]) ⟨Or.inl rfl, Or.inr rfl, Or.inr rfl, Or.inl rfl, trivial⟩ ?_
      exact fX8_byTransfers_39_ok F hX hp h K
    · rw [if_pos hq14] at h
      refine v_iconst F dX8_byTransfers_34 ⟨by decide, by decide⟩ ?_
      refine v_goto F dX8_byTransfers_35 rfl ?_
      refine v_fgt (L' := [mA o, mU, mU, mU]) ⟨Or.inl rfl, Or.inr rfl, Or.inr rfl, Or.inl rfl, trivial⟩ ?_
      exact fX8_byTransfers_39_ok F hX hp h K
theorem fX8_byTransfers_6_ok {w : Wd} {l : Launch} {G : Cx} {d m dd : Dt} {o v1 : Int} {d' : Dt} {x : Dt} (F : Fx w G cX8_byTransfers RX8 4 none { frames := 4, cells := 0, slots := 0, locals := 91 }) (hX : WF dd m) (hp : PB m o 8) (h : fX8_byTransfers_6 d o v1 = some x) (K : (fun q => q = d') x) : V w l WF G (QM w G WF none d' m 0 0) d m 0 0 6 [mA o, mI v1, mU, mU] [] := by
  unfold fX8_byTransfers_6 at h
  exact loop_ok (P := fX8_byTransfers_6P w l G (QM w G WF none d' m 0 0) m o) (fun s x hx h1 h2 => fX8_byTransfers_6f_ok F hX hp hx (by
    cases x with
    | inl s' => exact h1 s' rfl
    | inr z => cases h2 z rfl; exact K)) h
theorem vm_X8_byTransfers {w : Wd} {l : Launch} {d m : Dt} {o : Int} {d' : Dt} (hp : PB m o 8) (h : fX8_byTransfers d o = some d') : VM w l WF yX8_byTransfers cX8_byTransfers 4 none 4 91 0 0 d m [mA o] none d' m := by
  obtain ⟨x, h, K⟩ : ∃ x, fX8_byTransfers d o = some x ∧ x = d' := ⟨_, h, rfl⟩
  refine VM.of (L := [mA o, mU, mU, mU]) (by decide +kernel) rfl (Nat.le_of_ble_eq_true rfl) fun G F _ => v_fact fun _ hX _ _ => ?_
  unfold fX8_byTransfers at h
  refine v_aload_n F dX8_byTransfers_0 rfl rfl ?_
  obtain ⟨d1, hc2, h⟩ := bd_some h
  refine v_callV0 (c := 8) F dX8_byTransfers_1 cv_X8_304 rfl (PB.ob hp hX (Nat.le_of_ble_eq_true rfl)) (Nat.le_of_ble_eq_true rfl) rfl (vm_X8_lay hp hc2) rfl (rOk.of rfl) ?_
  refine v_iconst F dX8_byTransfers_4 ⟨by decide, by decide⟩ ?_
  refine v_istore_n F dX8_byTransfers_5 rfl (Nat.le_of_ble_eq_true rfl) (L' := [mA o, mI 1, mU, mU]) rfl ?_
  exact fX8_byTransfers_6_ok F hX hp h K
theorem vm_X8_isAbove {w : Wd} {l : Launch} {X : Dt → Dt → Prop} {d m : Dt} {a1 a2 : Int} : VM w l X yX8_isAbove cX8_isAbove 2 (some .boolean) 0 0 0 0 d m [mI a1, mI a2] (some (mI (fX8_isAbove a1 a2))) d m := by
  obtain ⟨r, hr⟩ : ∃ r, fX8_isAbove a1 a2 = r := ⟨_, rfl⟩
  rw [hr]
  obtain ⟨x, h, K⟩ : ∃ x, fX8_isAbove a1 a2 = x ∧ x = r := ⟨_, hr, rfl⟩
  refine VM.of (L := [mI a1, mI a2]) (by decide +kernel) rfl (Nat.le_of_ble_eq_true rfl) fun G F _ => ?_
  unfold fX8_isAbove at h
  refine v_iload_n F dX8_isAbove_0 rfl rfl ?_
  refine v_if_le F dX8_isAbove_1 rfl (fun hq1 => ?_) (fun hq1 => ?_)
  · rw [if_pos hq1] at h
    refine v_iconst F dX8_isAbove_17 ⟨by decide, by decide⟩ ?_
    subst h
    cases (show _ = r from K)
    exact v_zret F (Or.inl rfl) dX8_isAbove_18
  · rw [if_neg hq1] at h
    refine v_iload_n F dX8_isAbove_4 rfl rfl ?_
    refine v_if_eq F dX8_isAbove_5 rfl (fun hq2 => ?_) (fun hq2 => ?_)
    · rw [if_pos hq2] at h
      refine v_iconst F dX8_isAbove_13 ⟨by decide, by decide⟩ ?_
      refine v_goto F dX8_isAbove_14 rfl ?_
      subst h
      cases (show _ = r from K)
      exact v_zret F (Or.inr rfl) dX8_isAbove_18
    · rw [if_neg hq2] at h
      refine v_iload_n F dX8_isAbove_8 rfl rfl ?_
      refine v_iload_n F dX8_isAbove_9 rfl rfl ?_
      refine v_icmp_ge F dX8_isAbove_10 rfl (fun hq3 => ?_) (fun hq3 => ?_)
      · rw [if_pos hq3] at h
        refine v_iconst F dX8_isAbove_17 ⟨by decide, by decide⟩ ?_
        subst h
        cases (show _ = r from K)
        exact v_zret F (Or.inl rfl) dX8_isAbove_18
      · rw [if_neg hq3] at h
        refine v_iconst F dX8_isAbove_13 ⟨by decide, by decide⟩ ?_
        refine v_goto F dX8_isAbove_14 rfl ?_
        subst h
        cases (show _ = r from K)
        exact v_zret F (Or.inr rfl) dX8_isAbove_18
theorem fX8_isAbove_z {a1 a2 : Int} : fX8_isAbove a1 a2 = 0 ∨ fX8_isAbove a1 a2 = 1 := by
  unfold fX8_isAbove
  repeat' (first | exact Or.inl rfl | exact Or.inr rfl | split | assumption)
def fX8_matrix_2P (w : Wd) (l : Launch) (G : Cx) (Q : State → Prop) (m : Dt) (o : Int) (s : Dt × Int) : Prop := V w l WF G Q s.1 m 0 0 2 [mA o, mI (s.2), mU, mU, mU] []
def fX8_matrix_115P (w : Wd) (l : Launch) (G : Cx) (Q : State → Prop) (m : Dt) (o : Int) (s : Dt × Int) : Prop := V w l WF G Q s.1 m 0 0 115 [mA o, mI (s.2), mU, mU, mU] []
def fX8_matrix_125P (w : Wd) (l : Launch) (G : Cx) (Q : State → Prop) (m : Dt) (o v1 : Int) (s : Dt × Int) : Prop := V w l WF G Q s.1 m 0 0 125 [mA o, mI v1, mI (s.2), mU, mU] []
theorem fX8_matrix_182_ok {w : Wd} {l : Launch} {G : Cx} {d m dd : Dt} {o v1 v2 s0 s1 s2 : Int} {d' : Dt} {x : ((Dt × Int) ⊕ ((Dt × Int) ⊕ Dt))} (F : Fx w G cX8_matrix RX8 5 none { frames := 1, cells := 0, slots := 0, locals := 24 }) (hX : WF dd m) (hp : PB m o 8) (hs0 : AR m s0 103 9) (h : fX8_matrix_182 d o v1 v2 s0 s1 s2 = some x) (K : (Sum.elim (fX8_matrix_125P w l G (QM w G WF none d' m 0 0) m o v1) (Sum.elim (fX8_matrix_115P w l G (QM w G WF none d' m 0 0) m o) (fun q => q = d'))) x) : V w l WF G (QM w G WF none d' m 0 0) d m 0 0 182 [mA o, mI v1, mI v2, mU, mU] [mI s2, mI s1, mA s0] := by
  unfold fX8_matrix_182 at h
  obtain ⟨hi7, h⟩ := ck_some h
  obtain ⟨d8, ed8, h⟩ := sd_some h
  refine v_zast F dX8_matrix_182 hs0 hi7 ?_
  refine v_nD ed8 ?_
  obtain ⟨x9, ex9, h⟩ := lv_some h
  refine v_iincN F dX8_matrix_183 (Nat.le_of_ble_eq_true rfl) rfl ex9 (L' := [mA o, mI v1, mI x9, mU, mU]) rfl ?_
  refine v_goto F dX8_matrix_186 rfl ?_
  cases h
  exact K
theorem fX8_matrix_125f_ok {w : Wd} {l : Launch} {G : Cx} {m dd : Dt} {o v1 : Int} {d' : Dt} {s : Dt × Int} {x : ((Dt × Int) ⊕ ((Dt × Int) ⊕ Dt))} (F : Fx w G cX8_matrix RX8 5 none { frames := 1, cells := 0, slots := 0, locals := 24 }) (hX : WF dd m) (hp : PB m o 8) (h : fX8_matrix_125f o v1 s = some x) (K : (Sum.elim (fX8_matrix_125P w l G (QM w G WF none d' m 0 0) m o v1) (Sum.elim (fX8_matrix_115P w l G (QM w G WF none d' m 0 0) m o) (fun q => q = d'))) x) : V w l WF G (QM w G WF none d' m 0 0) s.1 m 0 0 125 [mA o, mI v1, mI (s.2), mU, mU] [] := by
  obtain ⟨d, v2⟩ := s
  unfold fX8_matrix_125f at h
  dsimp only at h
  refine v_iload_n F dX8_matrix_125 rfl rfl ?_
  refine v_aload_n F dX8_matrix_126 rfl rfl ?_
  refine gf_X8_148 F dX8_matrix_127 hp ?_
  refine v_icmp_ge F dX8_matrix_130 rfl (fun hq3 => ?_) (fun hq3 => ?_)
  · rw [if_pos hq3] at h
    obtain ⟨z, hu, ez⟩ := up_some h
    clear h
    subst ez
    have h := hu
    clear hu
    obtain ⟨x4, ex4, h⟩ := lv_some h
    refine v_iincN F dX8_matrix_189 (Nat.le_of_ble_eq_true rfl) rfl ex4 (L' := [mA o, mI x4, mI v2, mU, mU]) rfl ?_
    refine v_goto F dX8_matrix_192 rfl ?_
    cases h
    refine v_fgt (L' := [mA o, mI x4, mU, mU, mU]) ⟨Or.inl rfl, Or.inl rfl, Or.inr rfl, Or.inl rfl, Or.inl rfl, trivial⟩ ?_
    exact K
  · rw [if_neg hq3] at h
    refine v_aload_n F dX8_matrix_133 rfl rfl ?_
    refine gf_X8_83 F dX8_matrix_134 hp (v := (o + 199)) rfl ?_
    refine v_iload_n F dX8_matrix_137 rfl rfl ?_
    obtain ⟨hi5, h⟩ := ck_some h
    refine v_aaldF (c := 8) (k := 34) F dX8_matrix_138 hp (Nat.le_of_ble_eq_true rfl) (Nat.le_of_ble_eq_true rfl) (by decide) (by decide) rfl (ar_X8_34 hX hp) (Nat.le_of_ble_eq_true rfl) rfl rfl rfl rfl hi5 (v := ((o + 200) + v1)) (by show o + 200 + 1 * v1 = _; omega) ?_
    refine v_iload_n F dX8_matrix_139 rfl rfl ?_
    refine v_aload_n F dX8_matrix_140 rfl rfl ?_
    refine gf_X8_9 F dX8_matrix_141 hp (v := (o + 1)) rfl ?_
    refine v_iload_n F dX8_matrix_144 rfl rfl ?_
    refine v_zald F dX8_matrix_145 (ar_X8_4 hX hp) hi5 ?_
    refine v_if_eq F dX8_matrix_146 rfl (fun hq6 => ?_) (fun hq6 => ?_)
    · rw [if_pos hq6] at h
      refine v_iconst F dX8_matrix_181 ⟨by decide, by decide⟩ ?_
      exact fX8_matrix_182_ok F hX hp (ae_X8_34 (i := v1) hX hp hi5 (v := ((o + 200) + v1)) (by omega)) h K
    · rw [if_neg hq6] at h
      refine v_aload_n F dX8_matrix_149 rfl rfl ?_
      refine gf_X8_9 F dX8_matrix_150 hp (v := (o + 1)) rfl ?_
      refine v_iload_n F dX8_matrix_153 rfl rfl ?_
      obtain ⟨hi10, h⟩ := ck_some h
      refine v_zald F dX8_matrix_154 (ar_X8_4 hX hp) hi10 ?_
      refine v_if_eq F dX8_matrix_155 rfl (fun hq11 => ?_) (fun hq11 => ?_)
      · rw [if_pos hq11] at h
        refine v_iconst F dX8_matrix_181 ⟨by decide, by decide⟩ ?_
        exact fX8_matrix_182_ok F hX hp (ae_X8_34 (i := v1) hX hp hi5 (v := ((o + 200) + v1)) (by omega)) h K
      · rw [if_neg hq11] at h
        refine v_aload_n F dX8_matrix_158 rfl rfl ?_
        refine gf_X8_78 F dX8_matrix_159 hp (v := (o + 189)) rfl ?_
        refine v_iload_n F dX8_matrix_162 rfl rfl ?_
        refine v_aaldF (c := 8) (k := 33) F dX8_matrix_163 hp (Nat.le_of_ble_eq_true rfl) (Nat.le_of_ble_eq_true rfl) (by decide) (by decide) rfl (ar_X8_33 hX hp) (Nat.le_of_ble_eq_true rfl) rfl rfl rfl rfl hi5 (v := ((o + 190) + v1)) (by show o + 190 + 1 * v1 = _; omega) ?_
        refine v_iload_n F dX8_matrix_164 rfl rfl ?_
        refine v_iald F dX8_matrix_165 (ae_X8_33 (i := v1) hX hp hi5 (v := ((o + 190) + v1)) (by omega)) hi10 ?_
        refine v_aload_n F dX8_matrix_166 rfl rfl ?_
        refine gf_X8_78 F dX8_matrix_167 hp (v := (o + 189)) rfl ?_
        refine v_iload_n F dX8_matrix_170 rfl rfl ?_
        refine v_aaldF (c := 8) (k := 33) F dX8_matrix_171 hp (Nat.le_of_ble_eq_true rfl) (Nat.le_of_ble_eq_true rfl) (by decide) (by decide) rfl (ar_X8_33 hX hp) (Nat.le_of_ble_eq_true rfl) rfl rfl rfl rfl hi10 (v := ((o + 190) + v2)) (by show o + 190 + 1 * v2 = _; omega) ?_
        refine v_iload_n F dX8_matrix_172 rfl rfl ?_
        refine v_iald F dX8_matrix_173 (ae_X8_33 (i := v2) hX hp hi10 (v := ((o + 190) + v2)) (by omega)) hi5 ?_
        refine v_icmp_le F dX8_matrix_174 rfl (fun hq12 => ?_) (fun hq12 => ?_)
        · rw [if_pos hq12] at h
          refine v_iconst F dX8_matrix_181 ⟨by decide, by decide⟩ ?_
          exact fX8_matrix_182_ok F hX hp (ae_X8_34 (i := v1) hX hp hi5 (v := ((o + 200) + v1)) (by omega)) h K
        · rw [if_neg hq12] at h
          refine v_iconst F dX8_matrix_177 ⟨by decide, by decide⟩ ?_
          refine v_goto F dX8_matrix_178 rfl ?_
          exact fX8_matrix_182_ok F hX hp (ae_X8_34 (i := v1) hX hp hi5 (v := ((o + 200) + v1)) (by omega)) h K
theorem fX8_matrix_125_ok {w : Wd} {l : Launch} {G : Cx} {d m dd : Dt} {o v1 v2 : Int} {d' : Dt} {x : ((Dt × Int) ⊕ Dt)} (F : Fx w G cX8_matrix RX8 5 none { frames := 1, cells := 0, slots := 0, locals := 24 }) (hX : WF dd m) (hp : PB m o 8) (h : fX8_matrix_125 d o v1 v2 = some x) (K : (Sum.elim (fX8_matrix_115P w l G (QM w G WF none d' m 0 0) m o) (fun q => q = d')) x) : V w l WF G (QM w G WF none d' m 0 0) d m 0 0 125 [mA o, mI v1, mI v2, mU, mU] [] := by
  unfold fX8_matrix_125 at h
  exact loop_ok (P := fX8_matrix_125P w l G (QM w G WF none d' m 0 0) m o v1) (fun s x hx h1 h2 => fX8_matrix_125f_ok F hX hp hx (by
    cases x with
    | inl s' => exact h1 s' rfl
    | inr z => cases h2 z rfl; exact K)) h
theorem fX8_matrix_115f_ok {w : Wd} {l : Launch} {G : Cx} {m dd : Dt} {o : Int} {d' : Dt} {s : Dt × Int} {x : ((Dt × Int) ⊕ Dt)} (F : Fx w G cX8_matrix RX8 5 none { frames := 1, cells := 0, slots := 0, locals := 24 }) (hX : WF dd m) (hp : PB m o 8) (h : fX8_matrix_115f o s = some x) (K : (Sum.elim (fX8_matrix_115P w l G (QM w G WF none d' m 0 0) m o) (fun q => q = d')) x) : V w l WF G (QM w G WF none d' m 0 0) s.1 m 0 0 115 [mA o, mI (s.2), mU, mU, mU] [] := by
  obtain ⟨d, v1⟩ := s
  unfold fX8_matrix_115f at h
  dsimp only at h
  refine v_iload_n F dX8_matrix_115 rfl rfl ?_
  refine v_aload_n F dX8_matrix_116 rfl rfl ?_
  refine gf_X8_148 F dX8_matrix_117 hp ?_
  refine v_icmp_ge F dX8_matrix_120 rfl (fun hq2 => ?_) (fun hq2 => ?_)
  · rw [if_pos hq2] at h
    obtain ⟨z, hu, ez⟩ := up_some h
    clear h
    subst ez
    have h := hu
    clear hu
    cases h
    cases (show _ = d' from K)
    exact v_vret F dX8_matrix_195
  · rw [if_neg hq2] at h
    refine v_iconst F dX8_matrix_123 ⟨by decide, by decide⟩ ?_
    refine v_istore_n F dX8_matrix_124 rfl (Nat.le_of_ble_eq_true rfl) (L' := [mA o, mI v1, mI 0, mU, mU]) rfl ?_
    exact fX8_matrix_125_ok F hX hp h K
theorem fX8_matrix_115_ok {w : Wd} {l : Launch} {G : Cx} {d m dd : Dt} {o v1 : Int} {d' : Dt} {x : Dt} (F : Fx w G cX8_matrix RX8 5 none { frames := 1, cells := 0, slots := 0, locals := 24 }) (hX : WF dd m) (hp : PB m o 8) (h : fX8_matrix_115 d o v1 = some x) (K : (fun q => q = d') x) : V w l WF G (QM w G WF none d' m 0 0) d m 0 0 115 [mA o, mI v1, mU, mU, mU] [] := by
  unfold fX8_matrix_115 at h
  exact loop_ok (P := fX8_matrix_115P w l G (QM w G WF none d' m 0 0) m o) (fun s x hx h1 h2 => fX8_matrix_115f_ok F hX hp hx (by
    cases x with
    | inl s' => exact h1 s' rfl
    | inr z => cases h2 z rfl; exact K)) h
def fX8_matrix_20P (w : Wd) (l : Launch) (G : Cx) (Q : State → Prop) (m : Dt) (o v1 : Int) (s : Dt × Int) : Prop := V w l WF G Q s.1 m 0 0 20 [mA o, mI v1, mI (s.2), mU, mU] []
def fX8_matrix_33P (w : Wd) (l : Launch) (G : Cx) (Q : State → Prop) (m : Dt) (d : Dt) (o v1 v2 : Int) (s : Int × Int) : Prop := V w l WF G Q d m 0 0 33 [mA o, mI v1, mI v2, mI (s.1), mI (s.2)] []
theorem fX8_matrix_72_ok {w : Wd} {l : Launch} {G : Cx} {d m dd : Dt} {o v1 v2 v4 s0 s1 : Int} {d' : Dt} {x : ((Int × Int) ⊕ ((Dt × Int) ⊕ ((Dt × Int) ⊕ Dt)))} (F : Fx w G cX8_matrix RX8 5 none { frames := 1, cells := 0, slots := 0, locals := 24 }) (hX : WF dd m) (hp : PB m o 8) (h : fX8_matrix_72 d o v1 v2 v4 s0 s1 = some x) (K : (Sum.elim (fX8_matrix_33P w l G (QM w G WF none d' m 0 0) m d o v1 v2) (Sum.elim (fX8_matrix_20P w l G (QM w G WF none d' m 0 0) m o v1) (Sum.elim (fX8_matrix_2P w l G (QM w G WF none d' m 0 0) m o) (fun q => q = d')))) x) : V w l WF G (QM w G WF none d' m 0 0) d m 0 0 72 [mA o, mI v1, mI v2, mU, mI v4] [mI s1, mI s0] := by
  unfold fX8_matrix_72 at h
  refine v_iadd F dX8_matrix_72 ?_
  obtain ⟨x29, ex29, h⟩ := lv_some h
  refine v_nI ex29 ?_
  refine v_istore_n F dX8_matrix_73 rfl (Nat.le_of_ble_eq_true rfl) (L' := [mA o, mI v1, mI v2, mI x29, mI v4]) rfl ?_
  obtain ⟨x30, ex30, h⟩ := lv_some h
  refine v_iincN F dX8_matrix_74 (Nat.le_of_ble_eq_true rfl) rfl ex30 (L' := [mA o, mI v1, mI v2, mI x29, mI x30]) rfl ?_
  refine v_goto F dX8_matrix_77 rfl ?_
  cases h
  exact K
theorem fX8_matrix_33f_ok {w : Wd} {l : Launch} {G : Cx} {d m dd : Dt} {o v1 v2 : Int} {d' : Dt} {s : Int × Int} {x : ((Int × Int) ⊕ ((Dt × Int) ⊕ ((Dt × Int) ⊕ Dt)))} (F : Fx w G cX8_matrix RX8 5 none { frames := 1, cells := 0, slots := 0, locals := 24 }) (hX : WF dd m) (hp : PB m o 8) (h : fX8_matrix_33f d o v1 v2 s = some x) (K : (Sum.elim (fX8_matrix_33P w l G (QM w G WF none d' m 0 0) m d o v1 v2) (Sum.elim (fX8_matrix_20P w l G (QM w G WF none d' m 0 0) m o v1) (Sum.elim (fX8_matrix_2P w l G (QM w G WF none d' m 0 0) m o) (fun q => q = d')))) x) : V w l WF G (QM w G WF none d' m 0 0) d m 0 0 33 [mA o, mI v1, mI v2, mI (s.1), mI (s.2)] [] := by
  obtain ⟨v3, v4⟩ := s
  unfold fX8_matrix_33f at h
  dsimp only at h
  refine v_iload F dX8_matrix_33 rfl ?_
  refine v_aload_n F dX8_matrix_35 rfl rfl ?_
  refine gf_X8_155 F dX8_matrix_36 hp ?_
  refine v_icmp_ge F dX8_matrix_39 rfl (fun hq19 => ?_) (fun hq19 => ?_)
  · rw [if_pos hq19] at h
    obtain ⟨z, hu, ez⟩ := up_some h
    clear h
    subst ez
    have h := hu
    clear hu
    refine v_aload_n F dX8_matrix_80 rfl rfl ?_
    refine gf_X8_78 F dX8_matrix_81 hp (v := (o + 189)) rfl ?_
    refine v_iload_n F dX8_matrix_84 rfl rfl ?_
    obtain ⟨hi20, h⟩ := ck_some h
    refine v_aaldF (c := 8) (k := 33) F dX8_matrix_85 hp (Nat.le_of_ble_eq_true rfl) (Nat.le_of_ble_eq_true rfl) (by decide) (by decide) rfl (ar_X8_33 hX hp) (Nat.le_of_ble_eq_true rfl) rfl rfl rfl rfl hi20 (v := ((o + 190) + v1)) (by show o + 190 + 1 * v1 = _; omega) ?_
    refine v_iload_n F dX8_matrix_86 rfl rfl ?_
    refine v_iload_n F dX8_matrix_87 rfl rfl ?_
    obtain ⟨hi21, h⟩ := ck_some h
    obtain ⟨d22, ed22, h⟩ := sd_some h
    refine v_iast F dX8_matrix_88 (ae_X8_33 (i := v1) hX hp hi20 (v := ((o + 190) + v1)) (by omega)) hi21 ?_
    refine v_nD ed22 ?_
    refine v_aload_n F dX8_matrix_89 rfl rfl ?_
    refine gf_X8_33 F dX8_matrix_90 hp (v := (o + 126)) rfl ?_
    refine v_iload_n F dX8_matrix_93 rfl rfl ?_
    refine v_iload_n F dX8_matrix_94 rfl rfl ?_
    refine v_i2l F dX8_matrix_95 ?_
    obtain ⟨d23, ed23, h⟩ := sd_some h
    refine v_last F dX8_matrix_96 (ar_X8_13 hX hp) hi21 ?_
    refine v_nD ed23 ?_
    obtain ⟨x24, ex24, h⟩ := lv_some h
    refine v_iincN F dX8_matrix_97 (Nat.le_of_ble_eq_true rfl) rfl ex24 (L' := [mA o, mI v1, mI x24, mI v3, mI v4]) rfl ?_
    refine v_goto F dX8_matrix_100 rfl ?_
    cases h
    refine v_fgt (L' := [mA o, mI v1, mI x24, mU, mU]) ⟨Or.inl rfl, Or.inl rfl, Or.inl rfl, Or.inr rfl, Or.inr rfl, trivial⟩ ?_
    exact K
  · rw [if_neg hq19] at h
    refine v_iload_n F dX8_matrix_42 rfl rfl ?_
    refine v_aload_n F dX8_matrix_43 rfl rfl ?_
    refine gf_X8_17 F dX8_matrix_44 hp (v := (o + 2)) rfl ?_
    refine v_iload F dX8_matrix_47 rfl ?_
    obtain ⟨hi25, h⟩ := ck_some h
    refine v_aaldF (c := 8) (k := 6) F dX8_matrix_49 hp (Nat.le_of_ble_eq_true rfl) (Nat.le_of_ble_eq_true rfl) (by decide) (by decide) rfl (ar_X8_6 hX hp) (Nat.le_of_ble_eq_true rfl) rfl rfl rfl rfl hi25 (v := ((o + 3) + v4)) (by show o + 3 + 1 * v4 = _; omega) ?_
    refine v_iload_n F dX8_matrix_50 rfl rfl ?_
    obtain ⟨hi26, h⟩ := ck_some h
    refine v_bald F dX8_matrix_51 (ae_X8_6 (i := v4) hX hp hi25 (v := ((o + 3) + v4)) (by omega)) hi26 ?_
    refine v_aload_n F dX8_matrix_52 rfl rfl ?_
    refine gf_X8_17 F dX8_matrix_53 hp (v := (o + 2)) rfl ?_
    refine v_iload F dX8_matrix_56 rfl ?_
    refine v_aaldF (c := 8) (k := 6) F dX8_matrix_58 hp (Nat.le_of_ble_eq_true rfl) (Nat.le_of_ble_eq_true rfl) (by decide) (by decide) rfl (ar_X8_6 hX hp) (Nat.le_of_ble_eq_true rfl) rfl rfl rfl rfl hi25 (v := ((o + 3) + v4)) (by show o + 3 + 1 * v4 = _; omega) ?_
    refine v_iload_n F dX8_matrix_59 rfl rfl ?_
    obtain ⟨hi27, h⟩ := ck_some h
    refine v_bald F dX8_matrix_60 (ae_X8_6 (i := v4) hX hp hi25 (v := ((o + 3) + v4)) (by omega)) hi27 ?_
    refine v_callSv F dX8_matrix_61 cs_X8_356 rfl (vm_X8_isAbove) rfl (rOk.of rfl) ?_
    refine v_if_eq F dX8_matrix_64 rfl (fun hq28 => ?_) (fun hq28 => ?_)
    · rw [if_pos hq28] at h
      refine v_iconst F dX8_matrix_71 ⟨by decide, by decide⟩ ?_
      refine v_fgt (L' := [mA o, mI v1, mI v2, mU, mI v4]) ⟨Or.inl rfl, Or.inl rfl, Or.inl rfl, Or.inr rfl, Or.inl rfl, trivial⟩ ?_
      exact fX8_matrix_72_ok F hX hp h K
    · rw [if_neg hq28] at h
      refine v_iconst F dX8_matrix_67 ⟨by decide, by decide⟩ ?_
      refine v_goto F dX8_matrix_68 rfl ?_
      refine v_fgt (L' := [mA o, mI v1, mI v2, mU, mI v4]) ⟨Or.inl rfl, Or.inl rfl, Or.inl rfl, Or.inr rfl, Or.inl rfl, trivial⟩ ?_
      exact fX8_matrix_72_ok F hX hp h K
theorem fX8_matrix_33_ok {w : Wd} {l : Launch} {G : Cx} {d m dd : Dt} {o v1 v2 v3 v4 : Int} {d' : Dt} {x : ((Dt × Int) ⊕ ((Dt × Int) ⊕ Dt))} (F : Fx w G cX8_matrix RX8 5 none { frames := 1, cells := 0, slots := 0, locals := 24 }) (hX : WF dd m) (hp : PB m o 8) (h : fX8_matrix_33 d o v1 v2 v3 v4 = some x) (K : (Sum.elim (fX8_matrix_20P w l G (QM w G WF none d' m 0 0) m o v1) (Sum.elim (fX8_matrix_2P w l G (QM w G WF none d' m 0 0) m o) (fun q => q = d'))) x) : V w l WF G (QM w G WF none d' m 0 0) d m 0 0 33 [mA o, mI v1, mI v2, mI v3, mI v4] [] := by
  unfold fX8_matrix_33 at h
  exact loop_ok (P := fX8_matrix_33P w l G (QM w G WF none d' m 0 0) m d o v1 v2) (fun s x hx h1 h2 => fX8_matrix_33f_ok F hX hp hx (by
    cases x with
    | inl s' => exact h1 s' rfl
    | inr z => cases h2 z rfl; exact K)) h
theorem fX8_matrix_20f_ok {w : Wd} {l : Launch} {G : Cx} {m dd : Dt} {o v1 : Int} {d' : Dt} {s : Dt × Int} {x : ((Dt × Int) ⊕ ((Dt × Int) ⊕ Dt))} (F : Fx w G cX8_matrix RX8 5 none { frames := 1, cells := 0, slots := 0, locals := 24 }) (hX : WF dd m) (hp : PB m o 8) (h : fX8_matrix_20f o v1 s = some x) (K : (Sum.elim (fX8_matrix_20P w l G (QM w G WF none d' m 0 0) m o v1) (Sum.elim (fX8_matrix_2P w l G (QM w G WF none d' m 0 0) m o) (fun q => q = d'))) x) : V w l WF G (QM w G WF none d' m 0 0) s.1 m 0 0 20 [mA o, mI v1, mI (s.2), mU, mU] [] := by
  obtain ⟨d, v2⟩ := s
  unfold fX8_matrix_20f at h
  dsimp only at h
  refine v_iload_n F dX8_matrix_20 rfl rfl ?_
  refine v_aload_n F dX8_matrix_21 rfl rfl ?_
  refine gf_X8_148 F dX8_matrix_22 hp ?_
  refine v_icmp_ge F dX8_matrix_25 rfl (fun hq15 => ?_) (fun hq15 => ?_)
  · rw [if_pos hq15] at h
    obtain ⟨z, hu, ez⟩ := up_some h
    clear h
    subst ez
    have h := hu
    clear hu
    refine v_aload_n F dX8_matrix_103 rfl rfl ?_
    obtain ⟨d16, hc17, h⟩ := bd_some h
    refine v_callV0 (c := 8) F dX8_matrix_104 cv_X8_254 rfl (PB.ob hp hX (Nat.le_of_ble_eq_true rfl)) (Nat.le_of_ble_eq_true rfl) rfl (vm_X8_tell hp hc17) rfl (rOk.of rfl) ?_
    obtain ⟨x18, ex18, h⟩ := lv_some h
    refine v_iincN F dX8_matrix_107 (Nat.le_of_ble_eq_true rfl) rfl ex18 (L' := [mA o, mI x18, mI v2, mU, mU]) rfl ?_
    refine v_goto F dX8_matrix_110 rfl ?_
    cases h
    refine v_fgt (L' := [mA o, mI x18, mU, mU, mU]) ⟨Or.inl rfl, Or.inl rfl, Or.inr rfl, Or.inl rfl, Or.inl rfl, trivial⟩ ?_
    exact K
  · rw [if_neg hq15] at h
    refine v_iconst F dX8_matrix_28 ⟨by decide, by decide⟩ ?_
    refine v_istore_n F dX8_matrix_29 rfl (Nat.le_of_ble_eq_true rfl) (L' := [mA o, mI v1, mI v2, mI 0, mU]) rfl ?_
    refine v_iconst F dX8_matrix_30 ⟨by decide, by decide⟩ ?_
    refine v_istore F dX8_matrix_31 (Nat.le_of_ble_eq_true rfl) (L' := [mA o, mI v1, mI v2, mI 0, mI 0]) rfl ?_
    exact fX8_matrix_33_ok F hX hp h K
theorem fX8_matrix_20_ok {w : Wd} {l : Launch} {G : Cx} {d m dd : Dt} {o v1 v2 : Int} {d' : Dt} {x : ((Dt × Int) ⊕ Dt)} (F : Fx w G cX8_matrix RX8 5 none { frames := 1, cells := 0, slots := 0, locals := 24 }) (hX : WF dd m) (hp : PB m o 8) (h : fX8_matrix_20 d o v1 v2 = some x) (K : (Sum.elim (fX8_matrix_2P w l G (QM w G WF none d' m 0 0) m o) (fun q => q = d')) x) : V w l WF G (QM w G WF none d' m 0 0) d m 0 0 20 [mA o, mI v1, mI v2, mU, mU] [] := by
  unfold fX8_matrix_20 at h
  exact loop_ok (P := fX8_matrix_20P w l G (QM w G WF none d' m 0 0) m o v1) (fun s x hx h1 h2 => fX8_matrix_20f_ok F hX hp hx (by
    cases x with
    | inl s' => exact h1 s' rfl
    | inr z => cases h2 z rfl; exact K)) h
theorem fX8_matrix_2f_ok {w : Wd} {l : Launch} {G : Cx} {m dd : Dt} {o : Int} {d' : Dt} {s : Dt × Int} {x : ((Dt × Int) ⊕ Dt)} (F : Fx w G cX8_matrix RX8 5 none { frames := 1, cells := 0, slots := 0, locals := 24 }) (hX : WF dd m) (hp : PB m o 8) (h : fX8_matrix_2f o s = some x) (K : (Sum.elim (fX8_matrix_2P w l G (QM w G WF none d' m 0 0) m o) (fun q => q = d')) x) : V w l WF G (QM w G WF none d' m 0 0) s.1 m 0 0 2 [mA o, mI (s.2), mU, mU, mU] [] := by
  obtain ⟨d, v1⟩ := s
  unfold fX8_matrix_2f at h
  dsimp only at h
  refine v_iload_n F dX8_matrix_2 rfl rfl ?_
  refine v_aload_n F dX8_matrix_3 rfl rfl ?_
  refine gf_X8_148 F dX8_matrix_4 hp ?_
  refine v_icmp_ge F dX8_matrix_7 rfl (fun hq1 => ?_) (fun hq1 => ?_)
  · rw [if_pos hq1] at h
    obtain ⟨z, hu, ez⟩ := up_some h
    clear h
    subst ez
    have h := hu
    clear hu
    refine v_iconst F dX8_matrix_113 ⟨by decide, by decide⟩ ?_
    refine v_istore_n F dX8_matrix_114 rfl (Nat.le_of_ble_eq_true rfl) (L' := [mA o, mI 0, mU, mU, mU]) rfl ?_
    exact fX8_matrix_115_ok F hX hp h K
  · rw [if_neg hq1] at h
    refine v_aload_n F dX8_matrix_10 rfl rfl ?_
    refine gf_X8_33 F dX8_matrix_11 hp (v := (o + 126)) rfl ?_
    refine v_lconst0 F dX8_matrix_14 ?_
    obtain ⟨d13, hc14, h⟩ := bd_some h
    refine v_callS0 F dX8_matrix_15 cs_X8_242 rfl (vm_J4_fill_3 (ar_X8_13 hX hp) hc14) rfl (rOk.of rfl) ?_
    refine v_iconst F dX8_matrix_18 ⟨by decide, by decide⟩ ?_
    refine v_istore_n F dX8_matrix_19 rfl (Nat.le_of_ble_eq_true rfl) (L' := [mA o, mI v1, mI 0, mU, mU]) rfl ?_
    exact fX8_matrix_20_ok F hX hp h K
theorem fX8_matrix_2_ok {w : Wd} {l : Launch} {G : Cx} {d m dd : Dt} {o v1 : Int} {d' : Dt} {x : Dt} (F : Fx w G cX8_matrix RX8 5 none { frames := 1, cells := 0, slots := 0, locals := 24 }) (hX : WF dd m) (hp : PB m o 8) (h : fX8_matrix_2 d o v1 = some x) (K : (fun q => q = d') x) : V w l WF G (QM w G WF none d' m 0 0) d m 0 0 2 [mA o, mI v1, mU, mU, mU] [] := by
  unfold fX8_matrix_2 at h
  exact loop_ok (P := fX8_matrix_2P w l G (QM w G WF none d' m 0 0) m o) (fun s x hx h1 h2 => fX8_matrix_2f_ok F hX hp hx (by
    cases x with
    | inl s' => exact h1 s' rfl
    | inr z => cases h2 z rfl; exact K)) h
theorem vm_X8_matrix {w : Wd} {l : Launch} {d m : Dt} {o : Int} {d' : Dt} (hp : PB m o 8) (h : fX8_matrix d o = some d') : VM w l WF yX8_matrix cX8_matrix 5 none 1 24 0 0 d m [mA o] none d' m := by
  obtain ⟨x, h, K⟩ : ∃ x, fX8_matrix d o = some x ∧ x = d' := ⟨_, h, rfl⟩
  refine VM.of (L := [mA o, mU, mU, mU, mU]) (by decide +kernel) rfl (Nat.le_of_ble_eq_true rfl) fun G F _ => v_fact fun _ hX _ _ => ?_
  unfold fX8_matrix at h
  refine v_iconst F dX8_matrix_0 ⟨by decide, by decide⟩ ?_
  refine v_istore_n F dX8_matrix_1 rfl (Nat.le_of_ble_eq_true rfl) (L' := [mA o, mI 0, mU, mU, mU]) rfl ?_
  exact fX8_matrix_2_ok F hX hp h K
theorem vm_X8_isStronger {w : Wd} {l : Launch} {d m : Dt} {o a1 a2 a3 a4 : Int} {r : Int} (hp : PB m o 8) (h : fX8_isStronger d o a1 a2 a3 a4 = some r) : VM w l WF yX8_isStronger cX8_isStronger 7 (some .boolean) 0 0 0 0 d m [mA o, mI a1, mI a2, mI a3, mI a4] (some (mI r)) d m := by
  obtain ⟨x, h, K⟩ : ∃ x, fX8_isStronger d o a1 a2 a3 a4 = some x ∧ x = r := ⟨_, h, rfl⟩
  refine VM.of (L := [mA o, mI a1, mI a2, mI a3, mI a4, mU, mU]) (by decide +kernel) rfl (Nat.le_of_ble_eq_true rfl) fun G F _ => v_fact fun _ hX _ _ => ?_
  unfold fX8_isStronger at h
  refine v_aload_n F dX8_isStronger_0 rfl rfl ?_
  refine gf_X8_78 F dX8_isStronger_1 hp (v := (o + 189)) rfl ?_
  refine v_iload_n F dX8_isStronger_4 rfl rfl ?_
  obtain ⟨hi1, h⟩ := ck_some h
  refine v_aaldF (c := 8) (k := 33) F dX8_isStronger_5 hp (Nat.le_of_ble_eq_true rfl) (Nat.le_of_ble_eq_true rfl) (by decide) (by decide) rfl (ar_X8_33 hX hp) (Nat.le_of_ble_eq_true rfl) rfl rfl rfl rfl hi1 (v := ((o + 190) + a1)) (by show o + 190 + 1 * a1 = _; omega) ?_
  refine v_iload_n F dX8_isStronger_6 rfl rfl ?_
  obtain ⟨hi2, h⟩ := ck_some h
  refine v_iald F dX8_isStronger_7 (ae_X8_33 (i := a1) hX hp hi1 (v := ((o + 190) + a1)) (by omega)) hi2 ?_
  refine v_aload_n F dX8_isStronger_8 rfl rfl ?_
  refine gf_X8_78 F dX8_isStronger_9 hp (v := (o + 189)) rfl ?_
  refine v_iload_n F dX8_isStronger_12 rfl rfl ?_
  refine v_aaldF (c := 8) (k := 33) F dX8_isStronger_13 hp (Nat.le_of_ble_eq_true rfl) (Nat.le_of_ble_eq_true rfl) (by decide) (by decide) rfl (ar_X8_33 hX hp) (Nat.le_of_ble_eq_true rfl) rfl rfl rfl rfl hi2 (v := ((o + 190) + a2)) (by show o + 190 + 1 * a2 = _; omega) ?_
  refine v_iload_n F dX8_isStronger_14 rfl rfl ?_
  refine v_iald F dX8_isStronger_15 (ae_X8_33 (i := a2) hX hp hi2 (v := ((o + 190) + a2)) (by omega)) hi1 ?_
  refine v_isub F dX8_isStronger_16 ?_
  obtain ⟨x3, ex3, h⟩ := lv_some h
  refine v_nI ex3 ?_
  refine v_istore F dX8_isStronger_17 (Nat.le_of_ble_eq_true rfl) (L' := [mA o, mI a1, mI a2, mI a3, mI a4, mI x3, mU]) rfl ?_
  refine v_aload_n F dX8_isStronger_19 rfl rfl ?_
  refine gf_X8_78 F dX8_isStronger_20 hp (v := (o + 189)) rfl ?_
  refine v_iload_n F dX8_isStronger_23 rfl rfl ?_
  obtain ⟨hi4, h⟩ := ck_some h
  refine v_aaldF (c := 8) (k := 33) F dX8_isStronger_24 hp (Nat.le_of_ble_eq_true rfl) (Nat.le_of_ble_eq_true rfl) (by decide) (by decide) rfl (ar_X8_33 hX hp) (Nat.le_of_ble_eq_true rfl) rfl rfl rfl rfl hi4 (v := ((o + 190) + a3)) (by show o + 190 + 1 * a3 = _; omega) ?_
  refine v_iload F dX8_isStronger_25 rfl ?_
  obtain ⟨hi5, h⟩ := ck_some h
  refine v_iald F dX8_isStronger_27 (ae_X8_33 (i := a3) hX hp hi4 (v := ((o + 190) + a3)) (by omega)) hi5 ?_
  refine v_aload_n F dX8_isStronger_28 rfl rfl ?_
  refine gf_X8_78 F dX8_isStronger_29 hp (v := (o + 189)) rfl ?_
  refine v_iload F dX8_isStronger_32 rfl ?_
  refine v_aaldF (c := 8) (k := 33) F dX8_isStronger_34 hp (Nat.le_of_ble_eq_true rfl) (Nat.le_of_ble_eq_true rfl) (by decide) (by decide) rfl (ar_X8_33 hX hp) (Nat.le_of_ble_eq_true rfl) rfl rfl rfl rfl hi5 (v := ((o + 190) + a4)) (by show o + 190 + 1 * a4 = _; omega) ?_
  refine v_iload_n F dX8_isStronger_35 rfl rfl ?_
  refine v_iald F dX8_isStronger_36 (ae_X8_33 (i := a4) hX hp hi5 (v := ((o + 190) + a4)) (by omega)) hi4 ?_
  refine v_isub F dX8_isStronger_37 ?_
  obtain ⟨x6, ex6, h⟩ := lv_some h
  refine v_nI ex6 ?_
  refine v_istore F dX8_isStronger_38 (Nat.le_of_ble_eq_true rfl) (L' := [mA o, mI a1, mI a2, mI a3, mI a4, mI x3, mI x6]) rfl ?_
  refine v_iload F dX8_isStronger_40 rfl ?_
  refine v_iload F dX8_isStronger_42 rfl ?_
  refine v_icmp_eq F dX8_isStronger_44 rfl (fun hq7 => ?_) (fun hq7 => ?_)
  · rw [if_pos hq7] at h
    refine v_aload_n F dX8_isStronger_60 rfl rfl ?_
    refine gf_X8_78 F dX8_isStronger_61 hp (v := (o + 189)) rfl ?_
    refine v_iload_n F dX8_isStronger_64 rfl rfl ?_
    refine v_aaldF (c := 8) (k := 33) F dX8_isStronger_65 hp (Nat.le_of_ble_eq_true rfl) (Nat.le_of_ble_eq_true rfl) (by decide) (by decide) rfl (ar_X8_33 hX hp) (Nat.le_of_ble_eq_true rfl) rfl rfl rfl rfl hi1 (v := ((o + 190) + a1)) (by show o + 190 + 1 * a1 = _; omega) ?_
    refine v_iload_n F dX8_isStronger_66 rfl rfl ?_
    refine v_iald F dX8_isStronger_67 (ae_X8_33 (i := a1) hX hp hi1 (v := ((o + 190) + a1)) (by omega)) hi2 ?_
    refine v_aload_n F dX8_isStronger_68 rfl rfl ?_
    refine gf_X8_78 F dX8_isStronger_69 hp (v := (o + 189)) rfl ?_
    refine v_iload_n F dX8_isStronger_72 rfl rfl ?_
    refine v_aaldF (c := 8) (k := 33) F dX8_isStronger_73 hp (Nat.le_of_ble_eq_true rfl) (Nat.le_of_ble_eq_true rfl) (by decide) (by decide) rfl (ar_X8_33 hX hp) (Nat.le_of_ble_eq_true rfl) rfl rfl rfl rfl hi4 (v := ((o + 190) + a3)) (by show o + 190 + 1 * a3 = _; omega) ?_
    refine v_iload F dX8_isStronger_74 rfl ?_
    refine v_iald F dX8_isStronger_76 (ae_X8_33 (i := a3) hX hp hi4 (v := ((o + 190) + a3)) (by omega)) hi5 ?_
    refine v_icmp_eq F dX8_isStronger_77 rfl (fun hq8 => ?_) (fun hq8 => ?_)
    · rw [if_pos hq8] at h
      refine v_iload_n F dX8_isStronger_106 rfl rfl ?_
      refine v_iload_n F dX8_isStronger_107 rfl rfl ?_
      refine v_icmp_eq F dX8_isStronger_108 rfl (fun hq9 => ?_) (fun hq9 => ?_)
      · rw [if_pos hq9] at h
        refine v_aload_n F dX8_isStronger_140 rfl rfl ?_
        obtain ⟨x10, ex10, h⟩ := lv_some h
        obtain ⟨hn12, h⟩ := ck_some h
        refine gf_X8_135 F dX8_isStronger_141 hp ex10 fun hr11 => ?_
        have x10p := hr11.resolve_left hn12
        refine gf_X8_384 F dX8_isStronger_144 x10p (v := (x10 + 7)) rfl ?_
        refine v_iload_n F dX8_isStronger_147 rfl rfl ?_
        refine v_iald F dX8_isStronger_148 (ar_X9_8 hX x10p) hi2 ?_
        refine v_aload_n F dX8_isStronger_149 rfl rfl ?_
        obtain ⟨x13, ex13, h⟩ := lv_some h
        obtain ⟨hn15, h⟩ := ck_some h
        refine gf_X8_135 F dX8_isStronger_150 hp ex13 fun hr14 => ?_
        have x13p := hr14.resolve_left hn15
        refine gf_X8_384 F dX8_isStronger_153 x13p (v := (x13 + 7)) rfl ?_
        refine v_iload F dX8_isStronger_156 rfl ?_
        refine v_iald F dX8_isStronger_158 (ar_X9_8 hX x13p) hi5 ?_
        refine v_icmp_ge F dX8_isStronger_159 rfl (fun hq16 => ?_) (fun hq16 => ?_)
        · rw [if_pos hq16] at h
          refine v_iconst F dX8_isStronger_166 ⟨by decide, by decide⟩ ?_
          cases h
          cases (show _ = r from K)
          exact v_zret F (Or.inl rfl) dX8_isStronger_167
        · rw [if_neg hq16] at h
          refine v_iconst F dX8_isStronger_162 ⟨by decide, by decide⟩ ?_
          refine v_goto F dX8_isStronger_163 rfl ?_
          cases h
          cases (show _ = r from K)
          exact v_zret F (Or.inr rfl) dX8_isStronger_167
      · rw [if_neg hq9] at h
        refine v_aload_n F dX8_isStronger_111 rfl rfl ?_
        obtain ⟨x17, ex17, h⟩ := lv_some h
        obtain ⟨hn19, h⟩ := ck_some h
        refine gf_X8_135 F dX8_isStronger_112 hp ex17 fun hr18 => ?_
        have x17p := hr18.resolve_left hn19
        refine gf_X8_384 F dX8_isStronger_115 x17p (v := (x17 + 7)) rfl ?_
        refine v_iload_n F dX8_isStronger_118 rfl rfl ?_
        refine v_iald F dX8_isStronger_119 (ar_X9_8 hX x17p) hi1 ?_
        refine v_aload_n F dX8_isStronger_120 rfl rfl ?_
        obtain ⟨x20, ex20, h⟩ := lv_some h
        obtain ⟨hn22, h⟩ := ck_some h
        refine gf_X8_135 F dX8_isStronger_121 hp ex20 fun hr21 => ?_
        have x20p := hr21.resolve_left hn22
        refine gf_X8_384 F dX8_isStronger_124 x20p (v := (x20 + 7)) rfl ?_
        refine v_iload_n F dX8_isStronger_127 rfl rfl ?_
        refine v_iald F dX8_isStronger_128 (ar_X9_8 hX x20p) hi4 ?_
        refine v_icmp_ge F dX8_isStronger_129 rfl (fun hq23 => ?_) (fun hq23 => ?_)
        · rw [if_pos hq23] at h
          refine v_iconst F dX8_isStronger_136 ⟨by decide, by decide⟩ ?_
          refine v_goto F dX8_isStronger_137 rfl ?_
          cases h
          cases (show _ = r from K)
          exact v_zret F (Or.inl rfl) dX8_isStronger_167
        · rw [if_neg hq23] at h
          refine v_iconst F dX8_isStronger_132 ⟨by decide, by decide⟩ ?_
          refine v_goto F dX8_isStronger_133 rfl ?_
          cases h
          cases (show _ = r from K)
          exact v_zret F (Or.inr rfl) dX8_isStronger_167
    · rw [if_neg hq8] at h
      refine v_aload_n F dX8_isStronger_80 rfl rfl ?_
      refine gf_X8_78 F dX8_isStronger_81 hp (v := (o + 189)) rfl ?_
      refine v_iload_n F dX8_isStronger_84 rfl rfl ?_
      refine v_aaldF (c := 8) (k := 33) F dX8_isStronger_85 hp (Nat.le_of_ble_eq_true rfl) (Nat.le_of_ble_eq_true rfl) (by decide) (by decide) rfl (ar_X8_33 hX hp) (Nat.le_of_ble_eq_true rfl) rfl rfl rfl rfl hi1 (v := ((o + 190) + a1)) (by show o + 190 + 1 * a1 = _; omega) ?_
      refine v_iload_n F dX8_isStronger_86 rfl rfl ?_
      refine v_iald F dX8_isStronger_87 (ae_X8_33 (i := a1) hX hp hi1 (v := ((o + 190) + a1)) (by omega)) hi2 ?_
      refine v_aload_n F dX8_isStronger_88 rfl rfl ?_
      refine gf_X8_78 F dX8_isStronger_89 hp (v := (o + 189)) rfl ?_
      refine v_iload_n F dX8_isStronger_92 rfl rfl ?_
      refine v_aaldF (c := 8) (k := 33) F dX8_isStronger_93 hp (Nat.le_of_ble_eq_true rfl) (Nat.le_of_ble_eq_true rfl) (by decide) (by decide) rfl (ar_X8_33 hX hp) (Nat.le_of_ble_eq_true rfl) rfl rfl rfl rfl hi4 (v := ((o + 190) + a3)) (by show o + 190 + 1 * a3 = _; omega) ?_
      refine v_iload F dX8_isStronger_94 rfl ?_
      refine v_iald F dX8_isStronger_96 (ae_X8_33 (i := a3) hX hp hi4 (v := ((o + 190) + a3)) (by omega)) hi5 ?_
      refine v_icmp_le F dX8_isStronger_97 rfl (fun hq24 => ?_) (fun hq24 => ?_)
      · rw [if_pos hq24] at h
        refine v_iconst F dX8_isStronger_104 ⟨by decide, by decide⟩ ?_
        cases h
        cases (show _ = r from K)
        exact v_zret F (Or.inl rfl) dX8_isStronger_105
      · rw [if_neg hq24] at h
        refine v_iconst F dX8_isStronger_100 ⟨by decide, by decide⟩ ?_
        refine v_goto F dX8_isStronger_101 rfl ?_
        cases h
        cases (show _ = r from K)
        exact v_zret F (Or.inr rfl) dX8_isStronger_105
  · rw [if_neg hq7] at h
    refine v_iload F dX8_isStronger_47 rfl ?_
    refine v_iload F dX8_isStronger_49 rfl ?_
    refine v_icmp_le F dX8_isStronger_51 rfl (fun hq25 => ?_) (fun hq25 => ?_)
    · rw [if_pos hq25] at h
      refine v_iconst F dX8_isStronger_58 ⟨by decide, by decide⟩ ?_
      cases h
      cases (show _ = r from K)
      exact v_zret F (Or.inl rfl) dX8_isStronger_59
    · rw [if_neg hq25] at h
      refine v_iconst F dX8_isStronger_54 ⟨by decide, by decide⟩ ?_
      refine v_goto F dX8_isStronger_55 rfl ?_
      cases h
      cases (show _ = r from K)
      exact v_zret F (Or.inr rfl) dX8_isStronger_59
def fX8_sortPairs_7P (w : Wd) (l : Launch) (G : Cx) (Q : State → Prop) (m : Dt) (o : Int) (s : Dt × Int) : Prop := V w l WF G Q s.1 m 0 0 7 [mA o, mI (s.2), mU, mU] []
def fX8_sortPairs_17P (w : Wd) (l : Launch) (G : Cx) (Q : State → Prop) (m : Dt) (o v1 : Int) (s : Dt × Int) : Prop := V w l WF G Q s.1 m 0 0 17 [mA o, mI v1, mI (s.2), mU] []
def fX8_sortPairs_41P (w : Wd) (l : Launch) (G : Cx) (Q : State → Prop) (m : Dt) (o v1 v2 : Int) (s : Dt × Int) : Prop := V w l WF G Q s.1 m 0 0 41 [mA o, mI v1, mI v2, mI (s.2)] []
theorem fX8_sortPairs_104_ok {w : Wd} {l : Launch} {G : Cx} {d m dd : Dt} {o v1 v2 v3 : Int} {d' : Dt} {x : ((Dt × Int) ⊕ ((Dt × Int) ⊕ Dt))} (F : Fx w G cX8_sortPairs RX8 4 none { frames := 1, cells := 0, slots := 0, locals := 26 }) (hX : WF dd m) (hp : PB m o 8) (h : fX8_sortPairs_104 d o v1 v2 v3 = some x) (K : (Sum.elim (fX8_sortPairs_17P w l G (QM w G WF none d' m 0 0) m o v1) (Sum.elim (fX8_sortPairs_7P w l G (QM w G WF none d' m 0 0) m o) (fun q => q = d'))) x) : V w l WF G (QM w G WF none d' m 0 0) d m 0 0 104 [mA o, mI v1, mI v2, mI v3] [] := by
  unfold fX8_sortPairs_104 at h
  refine v_aload_n F dX8_sortPairs_104 rfl rfl ?_
  refine gf_X8_95 F dX8_sortPairs_105 hp (v := (o + 230)) rfl ?_
  refine v_iload_n F dX8_sortPairs_108 rfl rfl ?_
  refine v_iload_n F dX8_sortPairs_109 rfl rfl ?_
  obtain ⟨hi11, h⟩ := ck_some h
  obtain ⟨d12, ed12, h⟩ := sd_some h
  refine v_iast F dX8_sortPairs_110 (ar_X8_38 hX hp) hi11 ?_
  refine v_nD ed12 ?_
  refine v_aload_n F dX8_sortPairs_111 rfl rfl ?_
  refine gf_X8_98 F dX8_sortPairs_112 hp (v := (o + 231)) rfl ?_
  refine v_iload_n F dX8_sortPairs_115 rfl rfl ?_
  refine v_iload_n F dX8_sortPairs_116 rfl rfl ?_
  obtain ⟨d13, ed13, h⟩ := sd_some h
  refine v_iast F dX8_sortPairs_117 (ar_X8_39 hX hp) hi11 ?_
  refine v_nD ed13 ?_
  refine v_aload_n F dX8_sortPairs_118 rfl rfl ?_
  refine v_dup_A F dX8_sortPairs_119 ?_
  refine gf_X8_386 F dX8_sortPairs_120 hp ?_
  refine v_iconst F dX8_sortPairs_123 ⟨by decide, by decide⟩ ?_
  refine v_iadd F dX8_sortPairs_124 ?_
  obtain ⟨d14, ed14, h⟩ := sd_some h
  refine pf_X8_386 F dX8_sortPairs_125 hp ?_
  refine v_nD ed14 ?_
  obtain ⟨x15, ex15, h⟩ := lv_some h
  refine v_iincN F dX8_sortPairs_128 (Nat.le_of_ble_eq_true rfl) rfl ex15 (L' := [mA o, mI v1, mI x15, mI v3]) rfl ?_
  refine v_goto F dX8_sortPairs_131 rfl ?_
  cases h
  refine v_fgt (L' := [mA o, mI v1, mI x15, mU]) ⟨Or.inl rfl, Or.inl rfl, Or.inl rfl, Or.inr rfl, trivial⟩ ?_
  exact K
theorem fX8_sortPairs_41f_ok {w : Wd} {l : Launch} {G : Cx} {m dd : Dt} {o v1 v2 : Int} {d' : Dt} {s : Dt × Int} {x : ((Dt × Int) ⊕ ((Dt × Int) ⊕ ((Dt × Int) ⊕ Dt)))} (F : Fx w G cX8_sortPairs RX8 4 none { frames := 1, cells := 0, slots := 0, locals := 26 }) (hX : WF dd m) (hp : PB m o 8) (h : fX8_sortPairs_41f o v1 v2 s = some x) (K : (Sum.elim (fX8_sortPairs_41P w l G (QM w G WF none d' m 0 0) m o v1 v2) (Sum.elim (fX8_sortPairs_17P w l G (QM w G WF none d' m 0 0) m o v1) (Sum.elim (fX8_sortPairs_7P w l G (QM w G WF none d' m 0 0) m o) (fun q => q = d')))) x) : V w l WF G (QM w G WF none d' m 0 0) s.1 m 0 0 41 [mA o, mI v1, mI v2, mI (s.2)] [] := by
  obtain ⟨d, v3⟩ := s
  unfold fX8_sortPairs_41f at h
  dsimp only at h
  refine v_iload_n F dX8_sortPairs_41 rfl rfl ?_
  refine v_if_le F dX8_sortPairs_42 rfl (fun hq10 => ?_) (fun hq10 => ?_)
  · rw [if_pos hq10] at h
    obtain ⟨z, hu, ez⟩ := up_some h
    clear h
    subst ez
    have h := hu
    clear hu
    exact fX8_sortPairs_104_ok F hX hp h K
  · rw [if_neg hq10] at h
    refine v_aload_n F dX8_sortPairs_45 rfl rfl ?_
    refine v_iload_n F dX8_sortPairs_46 rfl rfl ?_
    refine v_iload_n F dX8_sortPairs_47 rfl rfl ?_
    refine v_aload_n F dX8_sortPairs_48 rfl rfl ?_
    refine gf_X8_95 F dX8_sortPairs_49 hp (v := (o + 230)) rfl ?_
    refine v_iload_n F dX8_sortPairs_52 rfl rfl ?_
    refine v_iconst F dX8_sortPairs_53 ⟨by decide, by decide⟩ ?_
    refine v_isub F dX8_sortPairs_54 ?_
    obtain ⟨x16, ex16, h⟩ := lv_some h
    refine v_nI ex16 ?_
    obtain ⟨hi17, h⟩ := ck_some h
    refine v_iald F dX8_sortPairs_55 (ar_X8_38 hX hp) hi17 ?_
    refine v_aload_n F dX8_sortPairs_56 rfl rfl ?_
    refine gf_X8_98 F dX8_sortPairs_57 hp (v := (o + 231)) rfl ?_
    refine v_iload_n F dX8_sortPairs_60 rfl rfl ?_
    refine v_iconst F dX8_sortPairs_61 ⟨by decide, by decide⟩ ?_
    refine v_isub F dX8_sortPairs_62 ?_
    obtain ⟨x18, ex18, h⟩ := lv_some h
    refine v_nI ex18 ?_
    obtain ⟨hi19, h⟩ := ck_some h
    refine v_iald F dX8_sortPairs_63 (ar_X8_39 hX hp) hi19 ?_
    obtain ⟨x20, hc21, h⟩ := b1_some h
    refine v_callVv (c := 8) F dX8_sortPairs_64 cv_X8_389 rfl (PB.ob hp hX (Nat.le_of_ble_eq_true rfl)) (Nat.le_of_ble_eq_true rfl) rfl (vm_X8_isStronger hp hc21) rfl (rOk.of rfl) ?_
    refine v_if_eq F dX8_sortPairs_67 rfl (fun hq22 => ?_) (fun hq22 => ?_)
    · rw [if_pos hq22] at h
      obtain ⟨z, hu, ez⟩ := up_some h
      clear h
      subst ez
      have h := hu
      clear hu
      exact fX8_sortPairs_104_ok F hX hp h K
    · rw [if_neg hq22] at h
      refine v_aload_n F dX8_sortPairs_70 rfl rfl ?_
      refine gf_X8_95 F dX8_sortPairs_71 hp (v := (o + 230)) rfl ?_
      refine v_iload_n F dX8_sortPairs_74 rfl rfl ?_
      refine v_aload_n F dX8_sortPairs_75 rfl rfl ?_
      refine gf_X8_95 F dX8_sortPairs_76 hp (v := (o + 230)) rfl ?_
      refine v_iload_n F dX8_sortPairs_79 rfl rfl ?_
      refine v_iconst F dX8_sortPairs_80 ⟨by decide, by decide⟩ ?_
      refine v_isub F dX8_sortPairs_81 ?_
      obtain ⟨x23, ex23, h⟩ := lv_some h
      refine v_nI ex23 ?_
      obtain ⟨hi24, h⟩ := ck_some h
      refine v_iald F dX8_sortPairs_82 (ar_X8_38 hX hp) hi24 ?_
      obtain ⟨hi25, h⟩ := ck_some h
      obtain ⟨d26, ed26, h⟩ := sd_some h
      refine v_iast F dX8_sortPairs_83 (ar_X8_38 hX hp) hi25 ?_
      refine v_nD ed26 ?_
      refine v_aload_n F dX8_sortPairs_84 rfl rfl ?_
      refine gf_X8_98 F dX8_sortPairs_85 hp (v := (o + 231)) rfl ?_
      refine v_iload_n F dX8_sortPairs_88 rfl rfl ?_
      refine v_aload_n F dX8_sortPairs_89 rfl rfl ?_
      refine gf_X8_98 F dX8_sortPairs_90 hp (v := (o + 231)) rfl ?_
      refine v_iload_n F dX8_sortPairs_93 rfl rfl ?_
      refine v_iconst F dX8_sortPairs_94 ⟨by decide, by decide⟩ ?_
      refine v_isub F dX8_sortPairs_95 ?_
      obtain ⟨x27, ex27, h⟩ := lv_some h
      refine v_nI ex27 ?_
      obtain ⟨hi28, h⟩ := ck_some h
      refine v_iald F dX8_sortPairs_96 (ar_X8_39 hX hp) hi28 ?_
      obtain ⟨d29, ed29, h⟩ := sd_some h
      refine v_iast F dX8_sortPairs_97 (ar_X8_39 hX hp) hi25 ?_
      refine v_nD ed29 ?_
      obtain ⟨x30, ex30, h⟩ := lv_some h
      refine v_iincN F dX8_sortPairs_98 (Nat.le_of_ble_eq_true rfl) rfl ex30 (L' := [mA o, mI v1, mI v2, mI x30]) rfl ?_
      refine v_goto F dX8_sortPairs_101 rfl ?_
      cases h
      exact K
theorem fX8_sortPairs_41_ok {w : Wd} {l : Launch} {G : Cx} {d m dd : Dt} {o v1 v2 v3 : Int} {d' : Dt} {x : ((Dt × Int) ⊕ ((Dt × Int) ⊕ Dt))} (F : Fx w G cX8_sortPairs RX8 4 none { frames := 1, cells := 0, slots := 0, locals := 26 }) (hX : WF dd m) (hp : PB m o 8) (h : fX8_sortPairs_41 d o v1 v2 v3 = some x) (K : (Sum.elim (fX8_sortPairs_17P w l G (QM w G WF none d' m 0 0) m o v1) (Sum.elim (fX8_sortPairs_7P w l G (QM w G WF none d' m 0 0) m o) (fun q => q = d'))) x) : V w l WF G (QM w G WF none d' m 0 0) d m 0 0 41 [mA o, mI v1, mI v2, mI v3] [] := by
  unfold fX8_sortPairs_41 at h
  exact loop_ok (P := fX8_sortPairs_41P w l G (QM w G WF none d' m 0 0) m o v1 v2) (fun s x hx h1 h2 => fX8_sortPairs_41f_ok F hX hp hx (by
    cases x with
    | inl s' => exact h1 s' rfl
    | inr z => cases h2 z rfl; exact K)) h
theorem fX8_sortPairs_17f_ok {w : Wd} {l : Launch} {G : Cx} {m dd : Dt} {o v1 : Int} {d' : Dt} {s : Dt × Int} {x : ((Dt × Int) ⊕ ((Dt × Int) ⊕ Dt))} (F : Fx w G cX8_sortPairs RX8 4 none { frames := 1, cells := 0, slots := 0, locals := 26 }) (hX : WF dd m) (hp : PB m o 8) (h : fX8_sortPairs_17f o v1 s = some x) (K : (Sum.elim (fX8_sortPairs_17P w l G (QM w G WF none d' m 0 0) m o v1) (Sum.elim (fX8_sortPairs_7P w l G (QM w G WF none d' m 0 0) m o) (fun q => q = d'))) x) : V w l WF G (QM w G WF none d' m 0 0) s.1 m 0 0 17 [mA o, mI v1, mI (s.2), mU] [] := by
  obtain ⟨d, v2⟩ := s
  unfold fX8_sortPairs_17f at h
  dsimp only at h
  refine v_iload_n F dX8_sortPairs_17 rfl rfl ?_
  refine v_aload_n F dX8_sortPairs_18 rfl rfl ?_
  refine gf_X8_148 F dX8_sortPairs_19 hp ?_
  refine v_icmp_ge F dX8_sortPairs_22 rfl (fun hq3 => ?_) (fun hq3 => ?_)
  · rw [if_pos hq3] at h
    obtain ⟨z, hu, ez⟩ := up_some h
    clear h
    subst ez
    have h := hu
    clear hu
    obtain ⟨x4, ex4, h⟩ := lv_some h
    refine v_iincN F dX8_sortPairs_134 (Nat.le_of_ble_eq_true rfl) rfl ex4 (L' := [mA o, mI x4, mI v2, mU]) rfl ?_
    refine v_goto F dX8_sortPairs_137 rfl ?_
    cases h
    refine v_fgt (L' := [mA o, mI x4, mU, mU]) ⟨Or.inl rfl, Or.inl rfl, Or.inr rfl, Or.inl rfl, trivial⟩ ?_
    exact K
  · rw [if_neg hq3] at h
    refine v_aload_n F dX8_sortPairs_25 rfl rfl ?_
    refine gf_X8_83 F dX8_sortPairs_26 hp (v := (o + 199)) rfl ?_
    refine v_iload_n F dX8_sortPairs_29 rfl rfl ?_
    obtain ⟨hi5, h⟩ := ck_some h
    refine v_aaldF (c := 8) (k := 34) F dX8_sortPairs_30 hp (Nat.le_of_ble_eq_true rfl) (Nat.le_of_ble_eq_true rfl) (by decide) (by decide) rfl (ar_X8_34 hX hp) (Nat.le_of_ble_eq_true rfl) rfl rfl rfl rfl hi5 (v := ((o + 200) + v1)) (by show o + 200 + 1 * v1 = _; omega) ?_
    refine v_iload_n F dX8_sortPairs_31 rfl rfl ?_
    obtain ⟨hi6, h⟩ := ck_some h
    refine v_zald F dX8_sortPairs_32 (ae_X8_34 (i := v1) hX hp hi5 (v := ((o + 200) + v1)) (by omega)) hi6 ?_
    refine v_if_eq F dX8_sortPairs_33 rfl (fun hq7 => ?_) (fun hq7 => ?_)
    · rw [if_pos hq7] at h
      obtain ⟨x8, ex8, h⟩ := lv_some h
      refine v_iincN F dX8_sortPairs_128 (Nat.le_of_ble_eq_true rfl) rfl ex8 (L' := [mA o, mI v1, mI x8, mU]) rfl ?_
      refine v_goto F dX8_sortPairs_131 rfl ?_
      cases h
      exact K
    · rw [if_neg hq7] at h
      refine v_aload_n F dX8_sortPairs_36 rfl rfl ?_
      refine gf_X8_386 F dX8_sortPairs_37 hp ?_
      obtain ⟨x9, ex9, h⟩ := lv_some h
      refine v_nI ex9 ?_
      refine v_istore_n F dX8_sortPairs_40 rfl (Nat.le_of_ble_eq_true rfl) (L' := [mA o, mI v1, mI v2, mI x9]) rfl ?_
      exact fX8_sortPairs_41_ok F hX hp h K
theorem fX8_sortPairs_17_ok {w : Wd} {l : Launch} {G : Cx} {d m dd : Dt} {o v1 v2 : Int} {d' : Dt} {x : ((Dt × Int) ⊕ Dt)} (F : Fx w G cX8_sortPairs RX8 4 none { frames := 1, cells := 0, slots := 0, locals := 26 }) (hX : WF dd m) (hp : PB m o 8) (h : fX8_sortPairs_17 d o v1 v2 = some x) (K : (Sum.elim (fX8_sortPairs_7P w l G (QM w G WF none d' m 0 0) m o) (fun q => q = d')) x) : V w l WF G (QM w G WF none d' m 0 0) d m 0 0 17 [mA o, mI v1, mI v2, mU] [] := by
  unfold fX8_sortPairs_17 at h
  exact loop_ok (P := fX8_sortPairs_17P w l G (QM w G WF none d' m 0 0) m o v1) (fun s x hx h1 h2 => fX8_sortPairs_17f_ok F hX hp hx (by
    cases x with
    | inl s' => exact h1 s' rfl
    | inr z => cases h2 z rfl; exact K)) h
theorem fX8_sortPairs_7f_ok {w : Wd} {l : Launch} {G : Cx} {m dd : Dt} {o : Int} {d' : Dt} {s : Dt × Int} {x : ((Dt × Int) ⊕ Dt)} (F : Fx w G cX8_sortPairs RX8 4 none { frames := 1, cells := 0, slots := 0, locals := 26 }) (hX : WF dd m) (hp : PB m o 8) (h : fX8_sortPairs_7f o s = some x) (K : (Sum.elim (fX8_sortPairs_7P w l G (QM w G WF none d' m 0 0) m o) (fun q => q = d')) x) : V w l WF G (QM w G WF none d' m 0 0) s.1 m 0 0 7 [mA o, mI (s.2), mU, mU] [] := by
  obtain ⟨d, v1⟩ := s
  unfold fX8_sortPairs_7f at h
  dsimp only at h
  refine v_iload_n F dX8_sortPairs_7 rfl rfl ?_
  refine v_aload_n F dX8_sortPairs_8 rfl rfl ?_
  refine gf_X8_148 F dX8_sortPairs_9 hp ?_
  refine v_icmp_ge F dX8_sortPairs_12 rfl (fun hq2 => ?_) (fun hq2 => ?_)
  · rw [if_pos hq2] at h
    obtain ⟨z, hu, ez⟩ := up_some h
    clear h
    subst ez
    have h := hu
    clear hu
    cases h
    cases (show _ = d' from K)
    exact v_vret F dX8_sortPairs_140
  · rw [if_neg hq2] at h
    refine v_iconst F dX8_sortPairs_15 ⟨by decide, by decide⟩ ?_
    refine v_istore_n F dX8_sortPairs_16 rfl (Nat.le_of_ble_eq_true rfl) (L' := [mA o, mI v1, mI 0, mU]) rfl ?_
    exact fX8_sortPairs_17_ok F hX hp h K
theorem fX8_sortPairs_7_ok {w : Wd} {l : Launch} {G : Cx} {d m dd : Dt} {o v1 : Int} {d' : Dt} {x : Dt} (F : Fx w G cX8_sortPairs RX8 4 none { frames := 1, cells := 0, slots := 0, locals := 26 }) (hX : WF dd m) (hp : PB m o 8) (h : fX8_sortPairs_7 d o v1 = some x) (K : (fun q => q = d') x) : V w l WF G (QM w G WF none d' m 0 0) d m 0 0 7 [mA o, mI v1, mU, mU] [] := by
  unfold fX8_sortPairs_7 at h
  exact loop_ok (P := fX8_sortPairs_7P w l G (QM w G WF none d' m 0 0) m o) (fun s x hx h1 h2 => fX8_sortPairs_7f_ok F hX hp hx (by
    cases x with
    | inl s' => exact h1 s' rfl
    | inr z => cases h2 z rfl; exact K)) h
theorem vm_X8_sortPairs {w : Wd} {l : Launch} {d m : Dt} {o : Int} {d' : Dt} (hp : PB m o 8) (h : fX8_sortPairs d o = some d') : VM w l WF yX8_sortPairs cX8_sortPairs 4 none 1 26 0 0 d m [mA o] none d' m := by
  obtain ⟨x, h, K⟩ : ∃ x, fX8_sortPairs d o = some x ∧ x = d' := ⟨_, h, rfl⟩
  refine VM.of (L := [mA o, mU, mU, mU]) (by decide +kernel) rfl (Nat.le_of_ble_eq_true rfl) fun G F _ => v_fact fun _ hX _ _ => ?_
  unfold fX8_sortPairs at h
  refine v_aload_n F dX8_sortPairs_0 rfl rfl ?_
  refine v_iconst F dX8_sortPairs_1 ⟨by decide, by decide⟩ ?_
  obtain ⟨d1, ed1, h⟩ := sd_some h
  refine pf_X8_386 F dX8_sortPairs_2 hp ?_
  refine v_nD ed1 ?_
  refine v_iconst F dX8_sortPairs_5 ⟨by decide, by decide⟩ ?_
  refine v_istore_n F dX8_sortPairs_6 rfl (Nat.le_of_ble_eq_true rfl) (L' := [mA o, mI 0, mU, mU]) rfl ?_
  exact fX8_sortPairs_7_ok F hX hp h K
def fX8_join_2P (w : Wd) (l : Launch) (G : Cx) (Q : State → Prop) (m : Dt) (o a1 a2 : Int) (s : Dt × Int) : Prop := V w l WF G Q s.1 m 0 0 2 [mA o, mI a1, mI a2, mI (s.2), mU] []
def fX8_join_13P (w : Wd) (l : Launch) (G : Cx) (Q : State → Prop) (m : Dt) (o a1 a2 v3 : Int) (s : Dt × Int) : Prop := V w l WF G Q s.1 m 0 0 13 [mA o, mI a1, mI a2, mI v3, mI (s.2)] []
theorem fX8_join_71_ok {w : Wd} {l : Launch} {G : Cx} {d m dd : Dt} {o a1 a2 v3 v4 s0 s1 s2 s3 : Int} {d' : Dt} {x : ((Dt × Int) ⊕ ((Dt × Int) ⊕ Dt))} (F : Fx w G cX8_join RX8 5 none { frames := 0, cells := 0, slots := 0, locals := 0 }) (hX : WF dd m) (hp : PB m o 8) (hs0 : AR m s0 103 9) (h : fX8_join_71 d o a1 a2 v3 v4 s0 s1 s2 s3 = some x) (K : (Sum.elim (fX8_join_13P w l G (QM w G WF none d' m 0 0) m o a1 a2 v3) (Sum.elim (fX8_join_2P w l G (QM w G WF none d' m 0 0) m o a1 a2) (fun q => q = d'))) x) : V w l WF G (QM w G WF none d' m 0 0) d m 0 0 71 [mA o, mI a1, mI a2, mI v3, mI v4] [mI s3, mI s2, mI s1, mA s0] := by
  unfold fX8_join_71 at h
  refine v_ior F dX8_join_71 ?_
  obtain ⟨hi8, h⟩ := ck_some h
  obtain ⟨d9, ed9, h⟩ := sd_some h
  refine v_zast F dX8_join_72 hs0 hi8 ?_
  refine v_nD ed9 ?_
  obtain ⟨x10, ex10, h⟩ := lv_some h
  refine v_iincN F dX8_join_73 (Nat.le_of_ble_eq_true rfl) rfl ex10 (L' := [mA o, mI a1, mI a2, mI v3, mI x10]) rfl ?_
  refine v_goto F dX8_join_76 rfl ?_
  cases h
  exact K
theorem fX8_join_48_ok {w : Wd} {l : Launch} {G : Cx} {d m dd : Dt} {o a1 a2 v3 v4 s0 s1 s2 : Int} {d' : Dt} {x : ((Dt × Int) ⊕ ((Dt × Int) ⊕ Dt))} (F : Fx w G cX8_join RX8 5 none { frames := 0, cells := 0, slots := 0, locals := 0 }) (hX : WF dd m) (hp : PB m o 8) (hs0 : AR m s0 103 9) (h : fX8_join_48 d o a1 a2 v3 v4 s0 s1 s2 = some x) (K : (Sum.elim (fX8_join_13P w l G (QM w G WF none d' m 0 0) m o a1 a2 v3) (Sum.elim (fX8_join_2P w l G (QM w G WF none d' m 0 0) m o a1 a2) (fun q => q = d'))) x) : V w l WF G (QM w G WF none d' m 0 0) d m 0 0 48 [mA o, mI a1, mI a2, mI v3, mI v4] [mI s2, mI s1, mA s0] := by
  unfold fX8_join_48 at h
  refine v_iload F dX8_join_48 rfl ?_
  refine v_iload_n F dX8_join_50 rfl rfl ?_
  refine v_icmp_eq F dX8_join_51 rfl (fun hq7 => ?_) (fun hq7 => ?_)
  · rw [if_pos hq7] at h
    refine v_iconst F dX8_join_66 ⟨by decide, by decide⟩ ?_
    refine v_goto F dX8_join_67 rfl ?_
    exact fX8_join_71_ok F hX hp hs0 h K
  · rw [if_neg hq7] at h
    refine v_aload_n F dX8_join_54 rfl rfl ?_
    refine gf_X8_86 F dX8_join_55 hp (v := (o + 209)) rfl ?_
    refine v_iload_n F dX8_join_58 rfl rfl ?_
    obtain ⟨hi11, h⟩ := ck_some h
    refine v_aaldF (c := 8) (k := 35) F dX8_join_59 hp (Nat.le_of_ble_eq_true rfl) (Nat.le_of_ble_eq_true rfl) (by decide) (by decide) rfl (ar_X8_35 hX hp) (Nat.le_of_ble_eq_true rfl) rfl rfl rfl rfl hi11 (v := ((o + 210) + a2)) (by show o + 210 + 1 * a2 = _; omega) ?_
    refine v_iload F dX8_join_60 rfl ?_
    obtain ⟨hi12, h⟩ := ck_some h
    refine v_zald F dX8_join_62 (ae_X8_35 (i := a2) hX hp hi11 (v := ((o + 210) + a2)) (by omega)) hi12 ?_
    refine v_if_eq F dX8_join_63 rfl (fun hq13 => ?_) (fun hq13 => ?_)
    · rw [if_pos hq13] at h
      refine v_iconst F dX8_join_70 ⟨by decide, by decide⟩ ?_
      exact fX8_join_71_ok F hX hp hs0 h K
    · rw [if_neg hq13] at h
      refine v_iconst F dX8_join_66 ⟨by decide, by decide⟩ ?_
      refine v_goto F dX8_join_67 rfl ?_
      exact fX8_join_71_ok F hX hp hs0 h K
theorem fX8_join_13f_ok {w : Wd} {l : Launch} {G : Cx} {m dd : Dt} {o a1 a2 v3 : Int} {d' : Dt} {s : Dt × Int} {x : ((Dt × Int) ⊕ ((Dt × Int) ⊕ Dt))} (F : Fx w G cX8_join RX8 5 none { frames := 0, cells := 0, slots := 0, locals := 0 }) (hX : WF dd m) (hp : PB m o 8) (h : fX8_join_13f o a1 a2 v3 s = some x) (K : (Sum.elim (fX8_join_13P w l G (QM w G WF none d' m 0 0) m o a1 a2 v3) (Sum.elim (fX8_join_2P w l G (QM w G WF none d' m 0 0) m o a1 a2) (fun q => q = d'))) x) : V w l WF G (QM w G WF none d' m 0 0) s.1 m 0 0 13 [mA o, mI a1, mI a2, mI v3, mI (s.2)] [] := by
  obtain ⟨d, v4⟩ := s
  unfold fX8_join_13f at h
  dsimp only at h
  refine v_iload F dX8_join_13 rfl ?_
  refine v_aload_n F dX8_join_15 rfl rfl ?_
  refine gf_X8_148 F dX8_join_16 hp ?_
  refine v_icmp_ge F dX8_join_19 rfl (fun hq2 => ?_) (fun hq2 => ?_)
  · rw [if_pos hq2] at h
    obtain ⟨z, hu, ez⟩ := up_some h
    clear h
    subst ez
    have h := hu
    clear hu
    obtain ⟨x3, ex3, h⟩ := lv_some h
    refine v_iincN F dX8_join_79 (Nat.le_of_ble_eq_true rfl) rfl ex3 (L' := [mA o, mI a1, mI a2, mI x3, mI v4]) rfl ?_
    refine v_goto F dX8_join_82 rfl ?_
    cases h
    refine v_fgt (L' := [mA o, mI a1, mI a2, mI x3, mU]) ⟨Or.inl rfl, Or.inl rfl, Or.inl rfl, Or.inl rfl, Or.inr rfl, trivial⟩ ?_
    exact K
  · rw [if_neg hq2] at h
    refine v_aload_n F dX8_join_22 rfl rfl ?_
    refine gf_X8_86 F dX8_join_23 hp (v := (o + 209)) rfl ?_
    refine v_iload_n F dX8_join_26 rfl rfl ?_
    obtain ⟨hi4, h⟩ := ck_some h
    refine v_aaldF (c := 8) (k := 35) F dX8_join_27 hp (Nat.le_of_ble_eq_true rfl) (Nat.le_of_ble_eq_true rfl) (by decide) (by decide) rfl (ar_X8_35 hX hp) (Nat.le_of_ble_eq_true rfl) rfl rfl rfl rfl hi4 (v := ((o + 210) + v3)) (by show o + 210 + 1 * v3 = _; omega) ?_
    refine v_iload F dX8_join_28 rfl ?_
    refine v_dup2_IA F dX8_join_30 ?_
    obtain ⟨hi5, h⟩ := ck_some h
    refine v_zald F dX8_join_31 (ae_X8_35 (i := v3) hX hp hi4 (v := ((o + 210) + v3)) (by omega)) hi5 ?_
    refine v_iload_n F dX8_join_32 rfl rfl ?_
    refine v_iload_n F dX8_join_33 rfl rfl ?_
    refine v_icmp_eq F dX8_join_34 rfl (fun hq6 => ?_) (fun hq6 => ?_)
    · rw [if_pos hq6] at h
      exact fX8_join_48_ok F hX hp (ae_X8_35 (i := v3) hX hp hi4 (v := ((o + 210) + v3)) (by omega)) h K
    · rw [if_neg hq6] at h
      refine v_aload_n F dX8_join_37 rfl rfl ?_
      refine gf_X8_86 F dX8_join_38 hp (v := (o + 209)) rfl ?_
      refine v_iload_n F dX8_join_41 rfl rfl ?_
      refine v_aaldF (c := 8) (k := 35) F dX8_join_42 hp (Nat.le_of_ble_eq_true rfl) (Nat.le_of_ble_eq_true rfl) (by decide) (by decide) rfl (ar_X8_35 hX hp) (Nat.le_of_ble_eq_true rfl) rfl rfl rfl rfl hi4 (v := ((o + 210) + v3)) (by show o + 210 + 1 * v3 = _; omega) ?_
      refine v_iload_n F dX8_join_43 rfl rfl ?_
      obtain ⟨hi14, h⟩ := ck_some h
      refine v_zald F dX8_join_44 (ae_X8_35 (i := v3) hX hp hi4 (v := ((o + 210) + v3)) (by omega)) hi14 ?_
      refine v_if_eq F dX8_join_45 rfl (fun hq15 => ?_) (fun hq15 => ?_)
      · rw [if_pos hq15] at h
        refine v_iconst F dX8_join_70 ⟨by decide, by decide⟩ ?_
        exact fX8_join_71_ok F hX hp (ae_X8_35 (i := v3) hX hp hi4 (v := ((o + 210) + v3)) (by omega)) h K
      · rw [if_neg hq15] at h
        exact fX8_join_48_ok F hX hp (ae_X8_35 (i := v3) hX hp hi4 (v := ((o + 210) + v3)) (by omega)) h K
theorem fX8_join_13_ok {w : Wd} {l : Launch} {G : Cx} {d m dd : Dt} {o a1 a2 v3 v4 : Int} {d' : Dt} {x : ((Dt × Int) ⊕ Dt)} (F : Fx w G cX8_join RX8 5 none { frames := 0, cells := 0, slots := 0, locals := 0 }) (hX : WF dd m) (hp : PB m o 8) (h : fX8_join_13 d o a1 a2 v3 v4 = some x) (K : (Sum.elim (fX8_join_2P w l G (QM w G WF none d' m 0 0) m o a1 a2) (fun q => q = d')) x) : V w l WF G (QM w G WF none d' m 0 0) d m 0 0 13 [mA o, mI a1, mI a2, mI v3, mI v4] [] := by
  unfold fX8_join_13 at h
  exact loop_ok (P := fX8_join_13P w l G (QM w G WF none d' m 0 0) m o a1 a2 v3) (fun s x hx h1 h2 => fX8_join_13f_ok F hX hp hx (by
    cases x with
    | inl s' => exact h1 s' rfl
    | inr z => cases h2 z rfl; exact K)) h
theorem fX8_join_2f_ok {w : Wd} {l : Launch} {G : Cx} {m dd : Dt} {o a1 a2 : Int} {d' : Dt} {s : Dt × Int} {x : ((Dt × Int) ⊕ Dt)} (F : Fx w G cX8_join RX8 5 none { frames := 0, cells := 0, slots := 0, locals := 0 }) (hX : WF dd m) (hp : PB m o 8) (h : fX8_join_2f o a1 a2 s = some x) (K : (Sum.elim (fX8_join_2P w l G (QM w G WF none d' m 0 0) m o a1 a2) (fun q => q = d')) x) : V w l WF G (QM w G WF none d' m 0 0) s.1 m 0 0 2 [mA o, mI a1, mI a2, mI (s.2), mU] [] := by
  obtain ⟨d, v3⟩ := s
  unfold fX8_join_2f at h
  dsimp only at h
  refine v_iload_n F dX8_join_2 rfl rfl ?_
  refine v_aload_n F dX8_join_3 rfl rfl ?_
  refine gf_X8_148 F dX8_join_4 hp ?_
  refine v_icmp_ge F dX8_join_7 rfl (fun hq1 => ?_) (fun hq1 => ?_)
  · rw [if_pos hq1] at h
    obtain ⟨z, hu, ez⟩ := up_some h
    clear h
    subst ez
    have h := hu
    clear hu
    cases h
    cases (show _ = d' from K)
    exact v_vret F dX8_join_85
  · rw [if_neg hq1] at h
    refine v_iconst F dX8_join_10 ⟨by decide, by decide⟩ ?_
    refine v_istore F dX8_join_11 (Nat.le_of_ble_eq_true rfl) (L' := [mA o, mI a1, mI a2, mI v3, mI 0]) rfl ?_
    exact fX8_join_13_ok F hX hp h K
theorem fX8_join_2_ok {w : Wd} {l : Launch} {G : Cx} {d m dd : Dt} {o a1 a2 v3 : Int} {d' : Dt} {x : Dt} (F : Fx w G cX8_join RX8 5 none { frames := 0, cells := 0, slots := 0, locals := 0 }) (hX : WF dd m) (hp : PB m o 8) (h : fX8_join_2 d o a1 a2 v3 = some x) (K : (fun q => q = d') x) : V w l WF G (QM w G WF none d' m 0 0) d m 0 0 2 [mA o, mI a1, mI a2, mI v3, mU] [] := by
  unfold fX8_join_2 at h
  exact loop_ok (P := fX8_join_2P w l G (QM w G WF none d' m 0 0) m o a1 a2) (fun s x hx h1 h2 => fX8_join_2f_ok F hX hp hx (by
    cases x with
    | inl s' => exact h1 s' rfl
    | inr z => cases h2 z rfl; exact K)) h
theorem vm_X8_join {w : Wd} {l : Launch} {d m : Dt} {o a1 a2 : Int} {d' : Dt} (hp : PB m o 8) (h : fX8_join d o a1 a2 = some d') : VM w l WF yX8_join cX8_join 5 none 0 0 0 0 d m [mA o, mI a1, mI a2] none d' m := by
  obtain ⟨x, h, K⟩ : ∃ x, fX8_join d o a1 a2 = some x ∧ x = d' := ⟨_, h, rfl⟩
  refine VM.of (L := [mA o, mI a1, mI a2, mU, mU]) (by decide +kernel) rfl (Nat.le_of_ble_eq_true rfl) fun G F _ => v_fact fun _ hX _ _ => ?_
  unfold fX8_join at h
  refine v_iconst F dX8_join_0 ⟨by decide, by decide⟩ ?_
  refine v_istore_n F dX8_join_1 rfl (Nat.le_of_ble_eq_true rfl) (L' := [mA o, mI a1, mI a2, mI 0, mU]) rfl ?_
  exact fX8_join_2_ok F hX hp h K
def fX8_keepPairs_6P (w : Wd) (l : Launch) (G : Cx) (Q : State → Prop) (m : Dt) (o : Int) (s : Dt × Int) : Prop := V w l WF G Q s.1 m 0 0 6 [mA o, mI (s.2), mU, mU] []
def fX8_keepPairs_32P (w : Wd) (l : Launch) (G : Cx) (Q : State → Prop) (m : Dt) (o : Int) (s : Dt × Int) : Prop := V w l WF G Q s.1 m 0 0 32 [mA o, mI (s.2), mU, mU] []
theorem fX8_keepPairs_32f_ok {w : Wd} {l : Launch} {G : Cx} {m dd : Dt} {o : Int} {d' : Dt} {s : Dt × Int} {x : ((Dt × Int) ⊕ Dt)} (F : Fx w G cX8_keepPairs RX8 4 none { frames := 2, cells := 0, slots := 0, locals := 49 }) (hX : WF dd m) (hp : PB m o 8) (h : fX8_keepPairs_32f o s = some x) (K : (Sum.elim (fX8_keepPairs_32P w l G (QM w G WF none d' m 0 0) m o) (fun q => q = d')) x) : V w l WF G (QM w G WF none d' m 0 0) s.1 m 0 0 32 [mA o, mI (s.2), mU, mU] [] := by
  obtain ⟨d, v1⟩ := s
  unfold fX8_keepPairs_32f at h
  dsimp only at h
  refine v_iload_n F dX8_keepPairs_32 rfl rfl ?_
  refine v_aload_n F dX8_keepPairs_33 rfl rfl ?_
  refine gf_X8_386 F dX8_keepPairs_34 hp ?_
  refine v_icmp_ge F dX8_keepPairs_37 rfl (fun hq4 => ?_) (fun hq4 => ?_)
  · rw [if_pos hq4] at h
    obtain ⟨z, hu, ez⟩ := up_some h
    clear h
    subst ez
    have h := hu
    clear hu
    cases h
    cases (show _ = d' from K)
    exact v_vret F dX8_keepPairs_77
  · rw [if_neg hq4] at h
    refine v_aload_n F dX8_keepPairs_40 rfl rfl ?_
    refine gf_X8_95 F dX8_keepPairs_41 hp (v := (o + 230)) rfl ?_
    refine v_iload_n F dX8_keepPairs_44 rfl rfl ?_
    obtain ⟨hi5, h⟩ := ck_some h
    refine v_iald F dX8_keepPairs_45 (ar_X8_38 hX hp) hi5 ?_
    obtain ⟨x6, ex6, h⟩ := lv_some h
    refine v_nI ex6 ?_
    refine v_istore_n F dX8_keepPairs_46 rfl (Nat.le_of_ble_eq_true rfl) (L' := [mA o, mI v1, mI x6, mU]) rfl ?_
    refine v_aload_n F dX8_keepPairs_47 rfl rfl ?_
    refine gf_X8_98 F dX8_keepPairs_48 hp (v := (o + 231)) rfl ?_
    refine v_iload_n F dX8_keepPairs_51 rfl rfl ?_
    refine v_iald F dX8_keepPairs_52 (ar_X8_39 hX hp) hi5 ?_
    obtain ⟨x7, ex7, h⟩ := lv_some h
    refine v_nI ex7 ?_
    refine v_istore_n F dX8_keepPairs_53 rfl (Nat.le_of_ble_eq_true rfl) (L' := [mA o, mI v1, mI x6, mI x7]) rfl ?_
    refine v_aload_n F dX8_keepPairs_54 rfl rfl ?_
    refine gf_X8_86 F dX8_keepPairs_55 hp (v := (o + 209)) rfl ?_
    refine v_iload_n F dX8_keepPairs_58 rfl rfl ?_
    obtain ⟨hi8, h⟩ := ck_some h
    refine v_aaldF (c := 8) (k := 35) F dX8_keepPairs_59 hp (Nat.le_of_ble_eq_true rfl) (Nat.le_of_ble_eq_true rfl) (by decide) (by decide) rfl (ar_X8_35 hX hp) (Nat.le_of_ble_eq_true rfl) rfl rfl rfl rfl hi8 (v := ((o + 210) + x7)) (by show o + 210 + 1 * x7 = _; omega) ?_
    refine v_iload_n F dX8_keepPairs_60 rfl rfl ?_
    obtain ⟨hi9, h⟩ := ck_some h
    refine v_zald F dX8_keepPairs_61 (ae_X8_35 (i := x7) hX hp hi8 (v := ((o + 210) + x7)) (by omega)) hi9 ?_
    refine v_if_ne F dX8_keepPairs_62 rfl (fun hq10 => ?_) (fun hq10 => ?_)
    · rw [if_neg hq10] at h
      obtain ⟨x11, ex11, h⟩ := lv_some h
      refine v_iincN F dX8_keepPairs_71 (Nat.le_of_ble_eq_true rfl) rfl ex11 (L' := [mA o, mI x11, mI x6, mI x7]) rfl ?_
      refine v_goto F dX8_keepPairs_74 rfl ?_
      cases h
      refine v_fgt (L' := [mA o, mI x11, mU, mU]) ⟨Or.inl rfl, Or.inl rfl, Or.inr rfl, Or.inr rfl, trivial⟩ ?_
      exact K
    · rw [if_pos hq10] at h
      refine v_aload_n F dX8_keepPairs_65 rfl rfl ?_
      refine v_iload_n F dX8_keepPairs_66 rfl rfl ?_
      refine v_iload_n F dX8_keepPairs_67 rfl rfl ?_
      obtain ⟨d12, hc13, h⟩ := bd_some h
      refine v_callV0 (c := 8) F dX8_keepPairs_68 cv_X8_396 rfl (PB.ob hp hX (Nat.le_of_ble_eq_true rfl)) (Nat.le_of_ble_eq_true rfl) rfl (vm_X8_join hp hc13) rfl (rOk.of rfl) ?_
      obtain ⟨x14, ex14, h⟩ := lv_some h
      refine v_iincN F dX8_keepPairs_71 (Nat.le_of_ble_eq_true rfl) rfl ex14 (L' := [mA o, mI x14, mI x6, mI x7]) rfl ?_
      refine v_goto F dX8_keepPairs_74 rfl ?_
      cases h
      refine v_fgt (L' := [mA o, mI x14, mU, mU]) ⟨Or.inl rfl, Or.inl rfl, Or.inr rfl, Or.inr rfl, trivial⟩ ?_
      exact K
theorem fX8_keepPairs_32_ok {w : Wd} {l : Launch} {G : Cx} {d m dd : Dt} {o v1 : Int} {d' : Dt} {x : Dt} (F : Fx w G cX8_keepPairs RX8 4 none { frames := 2, cells := 0, slots := 0, locals := 49 }) (hX : WF dd m) (hp : PB m o 8) (h : fX8_keepPairs_32 d o v1 = some x) (K : (fun q => q = d') x) : V w l WF G (QM w G WF none d' m 0 0) d m 0 0 32 [mA o, mI v1, mU, mU] [] := by
  unfold fX8_keepPairs_32 at h
  exact loop_ok (P := fX8_keepPairs_32P w l G (QM w G WF none d' m 0 0) m o) (fun s x hx h1 h2 => fX8_keepPairs_32f_ok F hX hp hx (by
    cases x with
    | inl s' => exact h1 s' rfl
    | inr z => cases h2 z rfl; exact K)) h
theorem fX8_keepPairs_6f_ok {w : Wd} {l : Launch} {G : Cx} {m dd : Dt} {o : Int} {d' : Dt} {s : Dt × Int} {x : ((Dt × Int) ⊕ Dt)} (F : Fx w G cX8_keepPairs RX8 4 none { frames := 2, cells := 0, slots := 0, locals := 49 }) (hX : WF dd m) (hp : PB m o 8) (h : fX8_keepPairs_6f o s = some x) (K : (Sum.elim (fX8_keepPairs_6P w l G (QM w G WF none d' m 0 0) m o) (fun q => q = d')) x) : V w l WF G (QM w G WF none d' m 0 0) s.1 m 0 0 6 [mA o, mI (s.2), mU, mU] [] := by
  obtain ⟨d, v1⟩ := s
  unfold fX8_keepPairs_6f at h
  dsimp only at h
  refine v_iload_n F dX8_keepPairs_6 rfl rfl ?_
  refine v_aload_n F dX8_keepPairs_7 rfl rfl ?_
  refine gf_X8_148 F dX8_keepPairs_8 hp ?_
  refine v_icmp_ge F dX8_keepPairs_11 rfl (fun hq3 => ?_) (fun hq3 => ?_)
  · rw [if_pos hq3] at h
    obtain ⟨z, hu, ez⟩ := up_some h
    clear h
    subst ez
    have h := hu
    clear hu
    refine v_iconst F dX8_keepPairs_30 ⟨by decide, by decide⟩ ?_
    refine v_istore_n F dX8_keepPairs_31 rfl (Nat.le_of_ble_eq_true rfl) (L' := [mA o, mI 0, mU, mU]) rfl ?_
    exact fX8_keepPairs_32_ok F hX hp h K
  · rw [if_neg hq3] at h
    refine v_aload_n F dX8_keepPairs_14 rfl rfl ?_
    refine gf_X8_86 F dX8_keepPairs_15 hp (v := (o + 209)) rfl ?_
    refine v_iload_n F dX8_keepPairs_18 rfl rfl ?_
    obtain ⟨hi15, h⟩ := ck_some h
    refine v_aaldF (c := 8) (k := 35) F dX8_keepPairs_19 hp (Nat.le_of_ble_eq_true rfl) (Nat.le_of_ble_eq_true rfl) (by decide) (by decide) rfl (ar_X8_35 hX hp) (Nat.le_of_ble_eq_true rfl) rfl rfl rfl rfl hi15 (v := ((o + 210) + v1)) (by show o + 210 + 1 * v1 = _; omega) ?_
    refine v_iconst F dX8_keepPairs_20 ⟨by decide, by decide⟩ ?_
    obtain ⟨d16, hc17, h⟩ := bd_some h
    refine v_callS0 F dX8_keepPairs_21 cs_X8_287 rfl (vm_J4_fill (ae_X8_35 (i := v1) hX hp hi15 (v := ((o + 210) + v1)) (by omega)) hc17) rfl (rOk.of rfl) ?_
    obtain ⟨x18, ex18, h⟩ := lv_some h
    refine v_iincN F dX8_keepPairs_24 (Nat.le_of_ble_eq_true rfl) rfl ex18 (L' := [mA o, mI x18, mU, mU]) rfl ?_
    refine v_goto F dX8_keepPairs_27 rfl ?_
    cases h
    exact K
theorem fX8_keepPairs_6_ok {w : Wd} {l : Launch} {G : Cx} {d m dd : Dt} {o v1 : Int} {d' : Dt} {x : Dt} (F : Fx w G cX8_keepPairs RX8 4 none { frames := 2, cells := 0, slots := 0, locals := 49 }) (hX : WF dd m) (hp : PB m o 8) (h : fX8_keepPairs_6 d o v1 = some x) (K : (fun q => q = d') x) : V w l WF G (QM w G WF none d' m 0 0) d m 0 0 6 [mA o, mI v1, mU, mU] [] := by
  unfold fX8_keepPairs_6 at h
  exact loop_ok (P := fX8_keepPairs_6P w l G (QM w G WF none d' m 0 0) m o) (fun s x hx h1 h2 => fX8_keepPairs_6f_ok F hX hp hx (by
    cases x with
    | inl s' => exact h1 s' rfl
    | inr z => cases h2 z rfl; exact K)) h
theorem vm_X8_keepPairs {w : Wd} {l : Launch} {d m : Dt} {o : Int} {d' : Dt} (hp : PB m o 8) (h : fX8_keepPairs d o = some d') : VM w l WF yX8_keepPairs cX8_keepPairs 4 none 2 49 0 0 d m [mA o] none d' m := by
  obtain ⟨x, h, K⟩ : ∃ x, fX8_keepPairs d o = some x ∧ x = d' := ⟨_, h, rfl⟩
  refine VM.of (L := [mA o, mU, mU, mU]) (by decide +kernel) rfl (Nat.le_of_ble_eq_true rfl) fun G F _ => v_fact fun _ hX _ _ => ?_
  unfold fX8_keepPairs at h
  refine v_aload_n F dX8_keepPairs_0 rfl rfl ?_
  obtain ⟨d1, hc2, h⟩ := bd_some h
  refine v_callV0 (c := 8) F dX8_keepPairs_1 cv_X8_393 rfl (PB.ob hp hX (Nat.le_of_ble_eq_true rfl)) (Nat.le_of_ble_eq_true rfl) rfl (vm_X8_sortPairs hp hc2) rfl (rOk.of rfl) ?_
  refine v_iconst F dX8_keepPairs_4 ⟨by decide, by decide⟩ ?_
  refine v_istore_n F dX8_keepPairs_5 rfl (Nat.le_of_ble_eq_true rfl) (L' := [mA o, mI 0, mU, mU]) rfl ?_
  exact fX8_keepPairs_6_ok F hX hp h K
def fX8_widen_2P (w : Wd) (l : Launch) (G : Cx) (Q : State → Prop) (m : Dt) (o : Int) (s : Dt × Int) : Prop := V w l WF G Q s.1 m 0 0 2 [mA o, mI (s.2), mU, mU] []
def fX8_widen_65P (w : Wd) (l : Launch) (G : Cx) (Q : State → Prop) (m : Dt) (o : Int) (s : Dt × Int) : Prop := V w l WF G Q s.1 m 0 0 65 [mA o, mI (s.2), mU, mU] []
def fX8_widen_75P (w : Wd) (l : Launch) (G : Cx) (Q : State → Prop) (m : Dt) (o v1 : Int) (s : Dt × Int) : Prop := V w l WF G Q s.1 m 0 0 75 [mA o, mI v1, mI (s.2), mU] []
def fX8_widen_85P (w : Wd) (l : Launch) (G : Cx) (Q : State → Prop) (m : Dt) (o v1 v2 : Int) (s : Dt × Int) : Prop := V w l WF G Q s.1 m 0 0 85 [mA o, mI v1, mI v2, mI (s.2)] []
theorem fX8_widen_85f_ok {w : Wd} {l : Launch} {G : Cx} {m dd : Dt} {o v1 v2 : Int} {d' : Dt} {s : Dt × Int} {x : ((Dt × Int) ⊕ ((Dt × Int) ⊕ ((Dt × Int) ⊕ Dt)))} (F : Fx w G cX8_widen RX8 4 none { frames := 1, cells := 0, slots := 0, locals := 21 }) (hX : WF dd m) (hp : PB m o 8) (h : fX8_widen_85f o v1 v2 s = some x) (K : (Sum.elim (fX8_widen_85P w l G (QM w G WF none d' m 0 0) m o v1 v2) (Sum.elim (fX8_widen_75P w l G (QM w G WF none d' m 0 0) m o v1) (Sum.elim (fX8_widen_65P w l G (QM w G WF none d' m 0 0) m o) (fun q => q = d')))) x) : V w l WF G (QM w G WF none d' m 0 0) s.1 m 0 0 85 [mA o, mI v1, mI v2, mI (s.2)] [] := by
  obtain ⟨d, v3⟩ := s
  unfold fX8_widen_85f at h
  dsimp only at h
  refine v_iload_n F dX8_widen_85 rfl rfl ?_
  refine v_aload_n F dX8_widen_86 rfl rfl ?_
  refine gf_X8_148 F dX8_widen_87 hp ?_
  refine v_icmp_ge F dX8_widen_90 rfl (fun hq5 => ?_) (fun hq5 => ?_)
  · rw [if_pos hq5] at h
    obtain ⟨z, hu, ez⟩ := up_some h
    clear h
    subst ez
    have h := hu
    clear hu
    obtain ⟨x6, ex6, h⟩ := lv_some h
    refine v_iincN F dX8_widen_137 (Nat.le_of_ble_eq_true rfl) rfl ex6 (L' := [mA o, mI v1, mI x6, mI v3]) rfl ?_
    refine v_goto F dX8_widen_140 rfl ?_
    cases h
    refine v_fgt (L' := [mA o, mI v1, mI x6, mU]) ⟨Or.inl rfl, Or.inl rfl, Or.inl rfl, Or.inr rfl, trivial⟩ ?_
    exact K
  · rw [if_neg hq5] at h
    refine v_aload_n F dX8_widen_93 rfl rfl ?_
    refine gf_X8_89 F dX8_widen_94 hp (v := (o + 219)) rfl ?_
    refine v_iload_n F dX8_widen_97 rfl rfl ?_
    obtain ⟨hi7, h⟩ := ck_some h
    refine v_aaldF (c := 8) (k := 36) F dX8_widen_98 hp (Nat.le_of_ble_eq_true rfl) (Nat.le_of_ble_eq_true rfl) (by decide) (by decide) rfl (ar_X8_36 hX hp) (Nat.le_of_ble_eq_true rfl) rfl rfl rfl rfl hi7 (v := ((o + 220) + v2)) (by show o + 220 + 1 * v2 = _; omega) ?_
    refine v_iload_n F dX8_widen_99 rfl rfl ?_
    refine v_aload_n F dX8_widen_100 rfl rfl ?_
    refine gf_X8_89 F dX8_widen_101 hp (v := (o + 219)) rfl ?_
    refine v_iload_n F dX8_widen_104 rfl rfl ?_
    refine v_aaldF (c := 8) (k := 36) F dX8_widen_105 hp (Nat.le_of_ble_eq_true rfl) (Nat.le_of_ble_eq_true rfl) (by decide) (by decide) rfl (ar_X8_36 hX hp) (Nat.le_of_ble_eq_true rfl) rfl rfl rfl rfl hi7 (v := ((o + 220) + v2)) (by show o + 220 + 1 * v2 = _; omega) ?_
    refine v_iload_n F dX8_widen_106 rfl rfl ?_
    obtain ⟨hi8, h⟩ := ck_some h
    refine v_iald F dX8_widen_107 (ae_X8_36 (i := v2) hX hp hi7 (v := ((o + 220) + v2)) (by omega)) hi8 ?_
    refine v_aload_n F dX8_widen_108 rfl rfl ?_
    refine gf_X8_89 F dX8_widen_109 hp (v := (o + 219)) rfl ?_
    refine v_iload_n F dX8_widen_112 rfl rfl ?_
    refine v_aaldF (c := 8) (k := 36) F dX8_widen_113 hp (Nat.le_of_ble_eq_true rfl) (Nat.le_of_ble_eq_true rfl) (by decide) (by decide) rfl (ar_X8_36 hX hp) (Nat.le_of_ble_eq_true rfl) rfl rfl rfl rfl hi7 (v := ((o + 220) + v2)) (by show o + 220 + 1 * v2 = _; omega) ?_
    refine v_iload_n F dX8_widen_114 rfl rfl ?_
    obtain ⟨hi9, h⟩ := ck_some h
    refine v_iald F dX8_widen_115 (ae_X8_36 (i := v2) hX hp hi7 (v := ((o + 220) + v2)) (by omega)) hi9 ?_
    refine v_aload_n F dX8_widen_116 rfl rfl ?_
    refine gf_X8_89 F dX8_widen_117 hp (v := (o + 219)) rfl ?_
    refine v_iload_n F dX8_widen_120 rfl rfl ?_
    refine v_aaldF (c := 8) (k := 36) F dX8_widen_121 hp (Nat.le_of_ble_eq_true rfl) (Nat.le_of_ble_eq_true rfl) (by decide) (by decide) rfl (ar_X8_36 hX hp) (Nat.le_of_ble_eq_true rfl) rfl rfl rfl rfl hi9 (v := ((o + 220) + v1)) (by show o + 220 + 1 * v1 = _; omega) ?_
    refine v_iload_n F dX8_widen_122 rfl rfl ?_
    refine v_iald F dX8_widen_123 (ae_X8_36 (i := v1) hX hp hi9 (v := ((o + 220) + v1)) (by omega)) hi8 ?_
    refine v_callSv F dX8_widen_124 cs_X8_399 rfl (vm_J9_min) rfl (rOk.of rfl) ?_
    refine v_callSv F dX8_widen_127 cs_X8_378 rfl (vm_J9_max) rfl (rOk.of rfl) ?_
    obtain ⟨d10, ed10, h⟩ := sd_some h
    refine v_iast F dX8_widen_130 (ae_X8_36 (i := v2) hX hp hi7 (v := ((o + 220) + v2)) (by omega)) hi8 ?_
    refine v_nD ed10 ?_
    obtain ⟨x11, ex11, h⟩ := lv_some h
    refine v_iincN F dX8_widen_131 (Nat.le_of_ble_eq_true rfl) rfl ex11 (L' := [mA o, mI v1, mI v2, mI x11]) rfl ?_
    refine v_goto F dX8_widen_134 rfl ?_
    cases h
    exact K
theorem fX8_widen_85_ok {w : Wd} {l : Launch} {G : Cx} {d m dd : Dt} {o v1 v2 v3 : Int} {d' : Dt} {x : ((Dt × Int) ⊕ ((Dt × Int) ⊕ Dt))} (F : Fx w G cX8_widen RX8 4 none { frames := 1, cells := 0, slots := 0, locals := 21 }) (hX : WF dd m) (hp : PB m o 8) (h : fX8_widen_85 d o v1 v2 v3 = some x) (K : (Sum.elim (fX8_widen_75P w l G (QM w G WF none d' m 0 0) m o v1) (Sum.elim (fX8_widen_65P w l G (QM w G WF none d' m 0 0) m o) (fun q => q = d'))) x) : V w l WF G (QM w G WF none d' m 0 0) d m 0 0 85 [mA o, mI v1, mI v2, mI v3] [] := by
  unfold fX8_widen_85 at h
  exact loop_ok (P := fX8_widen_85P w l G (QM w G WF none d' m 0 0) m o v1 v2) (fun s x hx h1 h2 => fX8_widen_85f_ok F hX hp hx (by
    cases x with
    | inl s' => exact h1 s' rfl
    | inr z => cases h2 z rfl; exact K)) h
theorem fX8_widen_75f_ok {w : Wd} {l : Launch} {G : Cx} {m dd : Dt} {o v1 : Int} {d' : Dt} {s : Dt × Int} {x : ((Dt × Int) ⊕ ((Dt × Int) ⊕ Dt))} (F : Fx w G cX8_widen RX8 4 none { frames := 1, cells := 0, slots := 0, locals := 21 }) (hX : WF dd m) (hp : PB m o 8) (h : fX8_widen_75f o v1 s = some x) (K : (Sum.elim (fX8_widen_75P w l G (QM w G WF none d' m 0 0) m o v1) (Sum.elim (fX8_widen_65P w l G (QM w G WF none d' m 0 0) m o) (fun q => q = d'))) x) : V w l WF G (QM w G WF none d' m 0 0) s.1 m 0 0 75 [mA o, mI v1, mI (s.2), mU] [] := by
  obtain ⟨d, v2⟩ := s
  unfold fX8_widen_75f at h
  dsimp only at h
  refine v_iload_n F dX8_widen_75 rfl rfl ?_
  refine v_aload_n F dX8_widen_76 rfl rfl ?_
  refine gf_X8_148 F dX8_widen_77 hp ?_
  refine v_icmp_ge F dX8_widen_80 rfl (fun hq3 => ?_) (fun hq3 => ?_)
  · rw [if_pos hq3] at h
    obtain ⟨z, hu, ez⟩ := up_some h
    clear h
    subst ez
    have h := hu
    clear hu
    obtain ⟨x4, ex4, h⟩ := lv_some h
    refine v_iincN F dX8_widen_143 (Nat.le_of_ble_eq_true rfl) rfl ex4 (L' := [mA o, mI x4, mI v2, mU]) rfl ?_
    refine v_goto F dX8_widen_146 rfl ?_
    cases h
    refine v_fgt (L' := [mA o, mI x4, mU, mU]) ⟨Or.inl rfl, Or.inl rfl, Or.inr rfl, Or.inl rfl, trivial⟩ ?_
    exact K
  · rw [if_neg hq3] at h
    refine v_iconst F dX8_widen_83 ⟨by decide, by decide⟩ ?_
    refine v_istore_n F dX8_widen_84 rfl (Nat.le_of_ble_eq_true rfl) (L' := [mA o, mI v1, mI v2, mI 0]) rfl ?_
    exact fX8_widen_85_ok F hX hp h K
theorem fX8_widen_75_ok {w : Wd} {l : Launch} {G : Cx} {d m dd : Dt} {o v1 v2 : Int} {d' : Dt} {x : ((Dt × Int) ⊕ Dt)} (F : Fx w G cX8_widen RX8 4 none { frames := 1, cells := 0, slots := 0, locals := 21 }) (hX : WF dd m) (hp : PB m o 8) (h : fX8_widen_75 d o v1 v2 = some x) (K : (Sum.elim (fX8_widen_65P w l G (QM w G WF none d' m 0 0) m o) (fun q => q = d')) x) : V w l WF G (QM w G WF none d' m 0 0) d m 0 0 75 [mA o, mI v1, mI v2, mU] [] := by
  unfold fX8_widen_75 at h
  exact loop_ok (P := fX8_widen_75P w l G (QM w G WF none d' m 0 0) m o v1) (fun s x hx h1 h2 => fX8_widen_75f_ok F hX hp hx (by
    cases x with
    | inl s' => exact h1 s' rfl
    | inr z => cases h2 z rfl; exact K)) h
theorem fX8_widen_65f_ok {w : Wd} {l : Launch} {G : Cx} {m dd : Dt} {o : Int} {d' : Dt} {s : Dt × Int} {x : ((Dt × Int) ⊕ Dt)} (F : Fx w G cX8_widen RX8 4 none { frames := 1, cells := 0, slots := 0, locals := 21 }) (hX : WF dd m) (hp : PB m o 8) (h : fX8_widen_65f o s = some x) (K : (Sum.elim (fX8_widen_65P w l G (QM w G WF none d' m 0 0) m o) (fun q => q = d')) x) : V w l WF G (QM w G WF none d' m 0 0) s.1 m 0 0 65 [mA o, mI (s.2), mU, mU] [] := by
  obtain ⟨d, v1⟩ := s
  unfold fX8_widen_65f at h
  dsimp only at h
  refine v_iload_n F dX8_widen_65 rfl rfl ?_
  refine v_aload_n F dX8_widen_66 rfl rfl ?_
  refine gf_X8_148 F dX8_widen_67 hp ?_
  refine v_icmp_ge F dX8_widen_70 rfl (fun hq2 => ?_) (fun hq2 => ?_)
  · rw [if_pos hq2] at h
    obtain ⟨z, hu, ez⟩ := up_some h
    clear h
    subst ez
    have h := hu
    clear hu
    cases h
    cases (show _ = d' from K)
    exact v_vret F dX8_widen_149
  · rw [if_neg hq2] at h
    refine v_iconst F dX8_widen_73 ⟨by decide, by decide⟩ ?_
    refine v_istore_n F dX8_widen_74 rfl (Nat.le_of_ble_eq_true rfl) (L' := [mA o, mI v1, mI 0, mU]) rfl ?_
    exact fX8_widen_75_ok F hX hp h K
theorem fX8_widen_65_ok {w : Wd} {l : Launch} {G : Cx} {d m dd : Dt} {o v1 : Int} {d' : Dt} {x : Dt} (F : Fx w G cX8_widen RX8 4 none { frames := 1, cells := 0, slots := 0, locals := 21 }) (hX : WF dd m) (hp : PB m o 8) (h : fX8_widen_65 d o v1 = some x) (K : (fun q => q = d') x) : V w l WF G (QM w G WF none d' m 0 0) d m 0 0 65 [mA o, mI v1, mU, mU] [] := by
  unfold fX8_widen_65 at h
  exact loop_ok (P := fX8_widen_65P w l G (QM w G WF none d' m 0 0) m o) (fun s x hx h1 h2 => fX8_widen_65f_ok F hX hp hx (by
    cases x with
    | inl s' => exact h1 s' rfl
    | inr z => cases h2 z rfl; exact K)) h
def fX8_widen_12P (w : Wd) (l : Launch) (G : Cx) (Q : State → Prop) (m : Dt) (o v1 : Int) (s : Dt × Int) : Prop := V w l WF G Q s.1 m 0 0 12 [mA o, mI v1, mI (s.2), mU] []
theorem fX8_widen_50_ok {w : Wd} {l : Launch} {G : Cx} {d m dd : Dt} {o v1 v2 s0 s1 s2 : Int} {d' : Dt} {x : ((Dt × Int) ⊕ ((Dt × Int) ⊕ Dt))} (F : Fx w G cX8_widen RX8 4 none { frames := 1, cells := 0, slots := 0, locals := 21 }) (hX : WF dd m) (hp : PB m o 8) (hs0 : AR m s0 101 9) (h : fX8_widen_50 d o v1 v2 s0 s1 s2 = some x) (K : (Sum.elim (fX8_widen_12P w l G (QM w G WF none d' m 0 0) m o v1) (Sum.elim (fX8_widen_2P w l G (QM w G WF none d' m 0 0) m o) (fun q => q = d'))) x) : V w l WF G (QM w G WF none d' m 0 0) d m 0 0 50 [mA o, mI v1, mI v2, mU] [mI s2, mI s1, mA s0] := by
  unfold fX8_widen_50 at h
  obtain ⟨hi17, h⟩ := ck_some h
  obtain ⟨d18, ed18, h⟩ := sd_some h
  refine v_iast F dX8_widen_50 hs0 hi17 ?_
  refine v_nD ed18 ?_
  obtain ⟨x19, ex19, h⟩ := lv_some h
  refine v_iincN F dX8_widen_51 (Nat.le_of_ble_eq_true rfl) rfl ex19 (L' := [mA o, mI v1, mI x19, mU]) rfl ?_
  refine v_goto F dX8_widen_54 rfl ?_
  cases h
  exact K
theorem fX8_widen_12f_ok {w : Wd} {l : Launch} {G : Cx} {m dd : Dt} {o v1 : Int} {d' : Dt} {s : Dt × Int} {x : ((Dt × Int) ⊕ ((Dt × Int) ⊕ Dt))} (F : Fx w G cX8_widen RX8 4 none { frames := 1, cells := 0, slots := 0, locals := 21 }) (hX : WF dd m) (hp : PB m o 8) (h : fX8_widen_12f o v1 s = some x) (K : (Sum.elim (fX8_widen_12P w l G (QM w G WF none d' m 0 0) m o v1) (Sum.elim (fX8_widen_2P w l G (QM w G WF none d' m 0 0) m o) (fun q => q = d'))) x) : V w l WF G (QM w G WF none d' m 0 0) s.1 m 0 0 12 [mA o, mI v1, mI (s.2), mU] [] := by
  obtain ⟨d, v2⟩ := s
  unfold fX8_widen_12f at h
  dsimp only at h
  refine v_iload_n F dX8_widen_12 rfl rfl ?_
  refine v_aload_n F dX8_widen_13 rfl rfl ?_
  refine gf_X8_148 F dX8_widen_14 hp ?_
  refine v_icmp_ge F dX8_widen_17 rfl (fun hq12 => ?_) (fun hq12 => ?_)
  · rw [if_pos hq12] at h
    obtain ⟨z, hu, ez⟩ := up_some h
    clear h
    subst ez
    have h := hu
    clear hu
    obtain ⟨x13, ex13, h⟩ := lv_some h
    refine v_iincN F dX8_widen_57 (Nat.le_of_ble_eq_true rfl) rfl ex13 (L' := [mA o, mI x13, mI v2, mU]) rfl ?_
    refine v_goto F dX8_widen_60 rfl ?_
    cases h
    refine v_fgt (L' := [mA o, mI x13, mU, mU]) ⟨Or.inl rfl, Or.inl rfl, Or.inr rfl, Or.inl rfl, trivial⟩ ?_
    exact K
  · rw [if_neg hq12] at h
    refine v_aload_n F dX8_widen_20 rfl rfl ?_
    refine gf_X8_89 F dX8_widen_21 hp (v := (o + 219)) rfl ?_
    refine v_iload_n F dX8_widen_24 rfl rfl ?_
    obtain ⟨hi14, h⟩ := ck_some h
    refine v_aaldF (c := 8) (k := 36) F dX8_widen_25 hp (Nat.le_of_ble_eq_true rfl) (Nat.le_of_ble_eq_true rfl) (by decide) (by decide) rfl (ar_X8_36 hX hp) (Nat.le_of_ble_eq_true rfl) rfl rfl rfl rfl hi14 (v := ((o + 220) + v1)) (by show o + 220 + 1 * v1 = _; omega) ?_
    refine v_iload_n F dX8_widen_26 rfl rfl ?_
    refine v_aload_n F dX8_widen_27 rfl rfl ?_
    refine gf_X8_83 F dX8_widen_28 hp (v := (o + 199)) rfl ?_
    refine v_iload_n F dX8_widen_31 rfl rfl ?_
    refine v_aaldF (c := 8) (k := 34) F dX8_widen_32 hp (Nat.le_of_ble_eq_true rfl) (Nat.le_of_ble_eq_true rfl) (by decide) (by decide) rfl (ar_X8_34 hX hp) (Nat.le_of_ble_eq_true rfl) rfl rfl rfl rfl hi14 (v := ((o + 200) + v1)) (by show o + 200 + 1 * v1 = _; omega) ?_
    refine v_iload_n F dX8_widen_33 rfl rfl ?_
    obtain ⟨hi15, h⟩ := ck_some h
    refine v_zald F dX8_widen_34 (ae_X8_34 (i := v1) hX hp hi14 (v := ((o + 200) + v1)) (by omega)) hi15 ?_
    refine v_if_eq F dX8_widen_35 rfl (fun hq16 => ?_) (fun hq16 => ?_)
    · rw [if_pos hq16] at h
      refine v_iconst F dX8_widen_49 ⟨by decide, by decide⟩ ?_
      exact fX8_widen_50_ok F hX hp (ae_X8_36 (i := v1) hX hp hi14 (v := ((o + 220) + v1)) (by omega)) h K
    · rw [if_neg hq16] at h
      refine v_aload_n F dX8_widen_38 rfl rfl ?_
      refine gf_X8_78 F dX8_widen_39 hp (v := (o + 189)) rfl ?_
      refine v_iload_n F dX8_widen_42 rfl rfl ?_
      refine v_aaldF (c := 8) (k := 33) F dX8_widen_43 hp (Nat.le_of_ble_eq_true rfl) (Nat.le_of_ble_eq_true rfl) (by decide) (by decide) rfl (ar_X8_33 hX hp) (Nat.le_of_ble_eq_true rfl) rfl rfl rfl rfl hi14 (v := ((o + 190) + v1)) (by show o + 190 + 1 * v1 = _; omega) ?_
      refine v_iload_n F dX8_widen_44 rfl rfl ?_
      refine v_iald F dX8_widen_45 (ae_X8_33 (i := v1) hX hp hi14 (v := ((o + 190) + v1)) (by omega)) hi15 ?_
      refine v_goto F dX8_widen_46 rfl ?_
      exact fX8_widen_50_ok F hX hp (ae_X8_36 (i := v1) hX hp hi14 (v := ((o + 220) + v1)) (by omega)) h K
theorem fX8_widen_12_ok {w : Wd} {l : Launch} {G : Cx} {d m dd : Dt} {o v1 v2 : Int} {d' : Dt} {x : ((Dt × Int) ⊕ Dt)} (F : Fx w G cX8_widen RX8 4 none { frames := 1, cells := 0, slots := 0, locals := 21 }) (hX : WF dd m) (hp : PB m o 8) (h : fX8_widen_12 d o v1 v2 = some x) (K : (Sum.elim (fX8_widen_2P w l G (QM w G WF none d' m 0 0) m o) (fun q => q = d')) x) : V w l WF G (QM w G WF none d' m 0 0) d m 0 0 12 [mA o, mI v1, mI v2, mU] [] := by
  unfold fX8_widen_12 at h
  exact loop_ok (P := fX8_widen_12P w l G (QM w G WF none d' m 0 0) m o v1) (fun s x hx h1 h2 => fX8_widen_12f_ok F hX hp hx (by
    cases x with
    | inl s' => exact h1 s' rfl
    | inr z => cases h2 z rfl; exact K)) h
theorem fX8_widen_2f_ok {w : Wd} {l : Launch} {G : Cx} {m dd : Dt} {o : Int} {d' : Dt} {s : Dt × Int} {x : ((Dt × Int) ⊕ Dt)} (F : Fx w G cX8_widen RX8 4 none { frames := 1, cells := 0, slots := 0, locals := 21 }) (hX : WF dd m) (hp : PB m o 8) (h : fX8_widen_2f o s = some x) (K : (Sum.elim (fX8_widen_2P w l G (QM w G WF none d' m 0 0) m o) (fun q => q = d')) x) : V w l WF G (QM w G WF none d' m 0 0) s.1 m 0 0 2 [mA o, mI (s.2), mU, mU] [] := by
  obtain ⟨d, v1⟩ := s
  unfold fX8_widen_2f at h
  dsimp only at h
  refine v_iload_n F dX8_widen_2 rfl rfl ?_
  refine v_aload_n F dX8_widen_3 rfl rfl ?_
  refine gf_X8_148 F dX8_widen_4 hp ?_
  refine v_icmp_ge F dX8_widen_7 rfl (fun hq1 => ?_) (fun hq1 => ?_)
  · rw [if_pos hq1] at h
    obtain ⟨z, hu, ez⟩ := up_some h
    clear h
    subst ez
    have h := hu
    clear hu
    refine v_iconst F dX8_widen_63 ⟨by decide, by decide⟩ ?_
    refine v_istore_n F dX8_widen_64 rfl (Nat.le_of_ble_eq_true rfl) (L' := [mA o, mI 0, mU, mU]) rfl ?_
    exact fX8_widen_65_ok F hX hp h K
  · rw [if_neg hq1] at h
    refine v_iconst F dX8_widen_10 ⟨by decide, by decide⟩ ?_
    refine v_istore_n F dX8_widen_11 rfl (Nat.le_of_ble_eq_true rfl) (L' := [mA o, mI v1, mI 0, mU]) rfl ?_
    exact fX8_widen_12_ok F hX hp h K
theorem fX8_widen_2_ok {w : Wd} {l : Launch} {G : Cx} {d m dd : Dt} {o v1 : Int} {d' : Dt} {x : Dt} (F : Fx w G cX8_widen RX8 4 none { frames := 1, cells := 0, slots := 0, locals := 21 }) (hX : WF dd m) (hp : PB m o 8) (h : fX8_widen_2 d o v1 = some x) (K : (fun q => q = d') x) : V w l WF G (QM w G WF none d' m 0 0) d m 0 0 2 [mA o, mI v1, mU, mU] [] := by
  unfold fX8_widen_2 at h
  exact loop_ok (P := fX8_widen_2P w l G (QM w G WF none d' m 0 0) m o) (fun s x hx h1 h2 => fX8_widen_2f_ok F hX hp hx (by
    cases x with
    | inl s' => exact h1 s' rfl
    | inr z => cases h2 z rfl; exact K)) h
theorem vm_X8_widen {w : Wd} {l : Launch} {d m : Dt} {o : Int} {d' : Dt} (hp : PB m o 8) (h : fX8_widen d o = some d') : VM w l WF yX8_widen cX8_widen 4 none 1 21 0 0 d m [mA o] none d' m := by
  obtain ⟨x, h, K⟩ : ∃ x, fX8_widen d o = some x ∧ x = d' := ⟨_, h, rfl⟩
  refine VM.of (L := [mA o, mU, mU, mU]) (by decide +kernel) rfl (Nat.le_of_ble_eq_true rfl) fun G F _ => v_fact fun _ hX _ _ => ?_
  unfold fX8_widen at h
  refine v_iconst F dX8_widen_0 ⟨by decide, by decide⟩ ?_
  refine v_istore_n F dX8_widen_1 rfl (Nat.le_of_ble_eq_true rfl) (L' := [mA o, mI 0, mU, mU]) rfl ?_
  exact fX8_widen_2_ok F hX hp h K
def fX8_greatestDefeat_4P (w : Wd) (l : Launch) (G : Cx) (Q : State → Prop) (m : Dt) (d : Dt) (o a1 : Int) (s : Int × Int) : Prop := V w l WF G Q d m 0 0 4 [mA o, mI a1, mI (s.1), mI (s.2)] []
theorem fX8_greatestDefeat_43_ok {w : Wd} {l : Launch} {G : Cx} {d m dd : Dt} {o a1 v3 s0 s1 : Int} {r : Int} {x : ((Int × Int) ⊕ Int)} (F : Fx w G cX8_greatestDefeat RX8 4 (some .int) { frames := 1, cells := 0, slots := 0, locals := 21 }) (hX : WF dd m) (hp : PB m o 8) (h : fX8_greatestDefeat_43 d o a1 v3 s0 s1 = some x) (K : (Sum.elim (fX8_greatestDefeat_4P w l G (QM w G WF (some (mI r)) d m 0 0) m d o a1) (fun q => q = r)) x) : V w l WF G (QM w G WF (some (mI r)) d m 0 0) d m 0 0 43 [mA o, mI a1, mU, mI v3] [mI s1, mI s0] := by
  unfold fX8_greatestDefeat_43 at h
  refine v_callSv F dX8_greatestDefeat_43 cs_X8_378 rfl (vm_J9_max) rfl (rOk.of rfl) ?_
  obtain ⟨x4, ex4, h⟩ := lv_some h
  refine v_nI ex4 ?_
  refine v_istore_n F dX8_greatestDefeat_46 rfl (Nat.le_of_ble_eq_true rfl) (L' := [mA o, mI a1, mI x4, mI v3]) rfl ?_
  obtain ⟨x5, ex5, h⟩ := lv_some h
  refine v_iincN F dX8_greatestDefeat_47 (Nat.le_of_ble_eq_true rfl) rfl ex5 (L' := [mA o, mI a1, mI x4, mI x5]) rfl ?_
  refine v_goto F dX8_greatestDefeat_50 rfl ?_
  cases h
  exact K
theorem fX8_greatestDefeat_4f_ok {w : Wd} {l : Launch} {G : Cx} {d m dd : Dt} {o a1 : Int} {r : Int} {s : Int × Int} {x : ((Int × Int) ⊕ Int)} (F : Fx w G cX8_greatestDefeat RX8 4 (some .int) { frames := 1, cells := 0, slots := 0, locals := 21 }) (hX : WF dd m) (hp : PB m o 8) (h : fX8_greatestDefeat_4f d o a1 s = some x) (K : (Sum.elim (fX8_greatestDefeat_4P w l G (QM w G WF (some (mI r)) d m 0 0) m d o a1) (fun q => q = r)) x) : V w l WF G (QM w G WF (some (mI r)) d m 0 0) d m 0 0 4 [mA o, mI a1, mI (s.1), mI (s.2)] [] := by
  obtain ⟨v2, v3⟩ := s
  unfold fX8_greatestDefeat_4f at h
  dsimp only at h
  refine v_iload_n F dX8_greatestDefeat_4 rfl rfl ?_
  refine v_aload_n F dX8_greatestDefeat_5 rfl rfl ?_
  refine gf_X8_148 F dX8_greatestDefeat_6 hp ?_
  refine v_icmp_ge F dX8_greatestDefeat_9 rfl (fun hq1 => ?_) (fun hq1 => ?_)
  · rw [if_pos hq1] at h
    obtain ⟨z, hu, ez⟩ := up_some h
    clear h
    subst ez
    have h := hu
    clear hu
    refine v_iload_n F dX8_greatestDefeat_53 rfl rfl ?_
    cases h
    cases (show _ = r from K)
    exact v_iret F dX8_greatestDefeat_54
  · rw [if_neg hq1] at h
    refine v_iload_n F dX8_greatestDefeat_12 rfl rfl ?_
    refine v_aload_n F dX8_greatestDefeat_13 rfl rfl ?_
    refine gf_X8_9 F dX8_greatestDefeat_14 hp (v := (o + 1)) rfl ?_
    refine v_iload_n F dX8_greatestDefeat_17 rfl rfl ?_
    obtain ⟨hi2, h⟩ := ck_some h
    refine v_zald F dX8_greatestDefeat_18 (ar_X8_4 hX hp) hi2 ?_
    refine v_if_eq F dX8_greatestDefeat_19 rfl (fun hq3 => ?_) (fun hq3 => ?_)
    · rw [if_pos hq3] at h
      refine v_iconst F dX8_greatestDefeat_42 ⟨by decide, by decide⟩ ?_
      refine v_fgt (L' := [mA o, mI a1, mU, mI v3]) ⟨Or.inl rfl, Or.inl rfl, Or.inr rfl, Or.inl rfl, trivial⟩ ?_
      exact fX8_greatestDefeat_43_ok F hX hp h K
    · rw [if_neg hq3] at h
      refine v_aload_n F dX8_greatestDefeat_22 rfl rfl ?_
      refine gf_X8_78 F dX8_greatestDefeat_23 hp (v := (o + 189)) rfl ?_
      refine v_iload_n F dX8_greatestDefeat_26 rfl rfl ?_
      refine v_aaldF (c := 8) (k := 33) F dX8_greatestDefeat_27 hp (Nat.le_of_ble_eq_true rfl) (Nat.le_of_ble_eq_true rfl) (by decide) (by decide) rfl (ar_X8_33 hX hp) (Nat.le_of_ble_eq_true rfl) rfl rfl rfl rfl hi2 (v := ((o + 190) + v3)) (by show o + 190 + 1 * v3 = _; omega) ?_
      refine v_iload_n F dX8_greatestDefeat_28 rfl rfl ?_
      obtain ⟨hi6, h⟩ := ck_some h
      refine v_iald F dX8_greatestDefeat_29 (ae_X8_33 (i := v3) hX hp hi2 (v := ((o + 190) + v3)) (by omega)) hi6 ?_
      refine v_aload_n F dX8_greatestDefeat_30 rfl rfl ?_
      refine gf_X8_78 F dX8_greatestDefeat_31 hp (v := (o + 189)) rfl ?_
      refine v_iload_n F dX8_greatestDefeat_34 rfl rfl ?_
      refine v_aaldF (c := 8) (k := 33) F dX8_greatestDefeat_35 hp (Nat.le_of_ble_eq_true rfl) (Nat.le_of_ble_eq_true rfl) (by decide) (by decide) rfl (ar_X8_33 hX hp) (Nat.le_of_ble_eq_true rfl) rfl rfl rfl rfl hi6 (v := ((o + 190) + a1)) (by show o + 190 + 1 * a1 = _; omega) ?_
      refine v_iload_n F dX8_greatestDefeat_36 rfl rfl ?_
      refine v_iald F dX8_greatestDefeat_37 (ae_X8_33 (i := a1) hX hp hi6 (v := ((o + 190) + a1)) (by omega)) hi2 ?_
      refine v_isub F dX8_greatestDefeat_38 ?_
      refine v_goto F dX8_greatestDefeat_39 rfl ?_
      refine v_fgt (L' := [mA o, mI a1, mU, mI v3]) ⟨Or.inl rfl, Or.inl rfl, Or.inr rfl, Or.inl rfl, trivial⟩ ?_
      exact fX8_greatestDefeat_43_ok F hX hp h K
theorem fX8_greatestDefeat_4_ok {w : Wd} {l : Launch} {G : Cx} {d m dd : Dt} {o a1 v2 v3 : Int} {r : Int} {x : Int} (F : Fx w G cX8_greatestDefeat RX8 4 (some .int) { frames := 1, cells := 0, slots := 0, locals := 21 }) (hX : WF dd m) (hp : PB m o 8) (h : fX8_greatestDefeat_4 d o a1 v2 v3 = some x) (K : (fun q => q = r) x) : V w l WF G (QM w G WF (some (mI r)) d m 0 0) d m 0 0 4 [mA o, mI a1, mI v2, mI v3] [] := by
  unfold fX8_greatestDefeat_4 at h
  exact loop_ok (P := fX8_greatestDefeat_4P w l G (QM w G WF (some (mI r)) d m 0 0) m d o a1) (fun s x hx h1 h2 => fX8_greatestDefeat_4f_ok F hX hp hx (by
    cases x with
    | inl s' => exact h1 s' rfl
    | inr z => cases h2 z rfl; exact K)) h
theorem vm_X8_greatestDefeat {w : Wd} {l : Launch} {d m : Dt} {o a1 : Int} {r : Int} (hp : PB m o 8) (h : fX8_greatestDefeat d o a1 = some r) : VM w l WF yX8_greatestDefeat cX8_greatestDefeat 4 (some .int) 1 21 0 0 d m [mA o, mI a1] (some (mI r)) d m := by
  obtain ⟨x, h, K⟩ : ∃ x, fX8_greatestDefeat d o a1 = some x ∧ x = r := ⟨_, h, rfl⟩
  refine VM.of (L := [mA o, mI a1, mU, mU]) (by decide +kernel) rfl (Nat.le_of_ble_eq_true rfl) fun G F _ => v_fact fun _ hX _ _ => ?_
  unfold fX8_greatestDefeat at h
  refine v_iconst F dX8_greatestDefeat_0 ⟨by decide, by decide⟩ ?_
  refine v_istore_n F dX8_greatestDefeat_1 rfl (Nat.le_of_ble_eq_true rfl) (L' := [mA o, mI a1, mI 0, mU]) rfl ?_
  refine v_iconst F dX8_greatestDefeat_2 ⟨by decide, by decide⟩ ?_
  refine v_istore_n F dX8_greatestDefeat_3 rfl (Nat.le_of_ble_eq_true rfl) (L' := [mA o, mI a1, mI 0, mI 0]) rfl ?_
  exact fX8_greatestDefeat_4_ok F hX hp h K
def fX8_isUnder_5P (w : Wd) (l : Launch) (G : Cx) (Q : State → Prop) (m : Dt) (d : Dt) (o a1 : Int) (s : Int × Int) : Prop := V w l WF G Q d m 0 0 5 [mA o, mI a1, mA (o + 209), mI (s.1), mI (s.2)] []
theorem fX8_isUnder_39_ok {w : Wd} {l : Launch} {G : Cx} {d m dd : Dt} {o a1 v4 s0 s1 : Int} {r : Int} {x : ((Int × Int) ⊕ Int)} (F : Fx w G cX8_isUnder RX8 5 (some .boolean) { frames := 0, cells := 0, slots := 0, locals := 0 }) (hX : WF dd m) (hp : PB m o 8) (h : fX8_isUnder_39 d o a1 v4 s0 s1 = some x) (K : (Sum.elim (fX8_isUnder_5P w l G (QM w G WF (some (mI r)) d m 0 0) m d o a1) (fun q => q = r)) x) : V w l WF G (QM w G WF (some (mI r)) d m 0 0) d m 0 0 39 [mA o, mI a1, mA (o + 209), mU, mI v4] [mI s1, mI s0] := by
  unfold fX8_isUnder_39 at h
  refine v_ior F dX8_isUnder_39 ?_
  obtain ⟨x4, ex4, h⟩ := lv_some h
  refine v_nI ex4 ?_
  refine v_istore_n F dX8_isUnder_40 rfl (Nat.le_of_ble_eq_true rfl) (L' := [mA o, mI a1, mA (o + 209), mI x4, mI v4]) rfl ?_
  obtain ⟨x5, ex5, h⟩ := lv_some h
  refine v_iincN F dX8_isUnder_41 (Nat.le_of_ble_eq_true rfl) rfl ex5 (L' := [mA o, mI a1, mA (o + 209), mI x4, mI x5]) rfl ?_
  refine v_goto F dX8_isUnder_44 rfl ?_
  cases h
  exact K
theorem fX8_isUnder_5f_ok {w : Wd} {l : Launch} {G : Cx} {d m dd : Dt} {o a1 : Int} {r : Int} {s : Int × Int} {x : ((Int × Int) ⊕ Int)} (F : Fx w G cX8_isUnder RX8 5 (some .boolean) { frames := 0, cells := 0, slots := 0, locals := 0 }) (hX : WF dd m) (hp : PB m o 8) (h : fX8_isUnder_5f d o a1 s = some x) (K : (Sum.elim (fX8_isUnder_5P w l G (QM w G WF (some (mI r)) d m 0 0) m d o a1) (fun q => q = r)) x) : V w l WF G (QM w G WF (some (mI r)) d m 0 0) d m 0 0 5 [mA o, mI a1, mA (o + 209), mI (s.1), mI (s.2)] [] := by
  obtain ⟨v3, v4⟩ := s
  unfold fX8_isUnder_5f at h
  dsimp only at h
  refine v_iload F dX8_isUnder_5 rfl ?_
  refine v_aload_n F dX8_isUnder_7 rfl rfl ?_
  refine gf_X8_148 F dX8_isUnder_8 hp ?_
  refine v_icmp_ge F dX8_isUnder_11 rfl (fun hq1 => ?_) (fun hq1 => ?_)
  · rw [if_pos hq1] at h
    obtain ⟨z, hu, ez⟩ := up_some h
    clear h
    subst ez
    have h := hu
    clear hu
    refine v_iload_n F dX8_isUnder_47 rfl rfl ?_
    obtain ⟨hb, h⟩ := ck_some h
    cases h
    cases (show _ = r from K)
    exact v_zret F hb dX8_isUnder_48
  · rw [if_neg hq1] at h
    refine v_iload_n F dX8_isUnder_14 rfl rfl ?_
    refine v_aload_n F dX8_isUnder_15 rfl rfl ?_
    refine gf_X8_92 F dX8_isUnder_16 hp (v := (o + 229)) rfl ?_
    refine v_iload F dX8_isUnder_19 rfl ?_
    obtain ⟨hi2, h⟩ := ck_some h
    refine v_zald F dX8_isUnder_21 (ar_X8_37 hX hp) hi2 ?_
    refine v_if_eq F dX8_isUnder_22 rfl (fun hq3 => ?_) (fun hq3 => ?_)
    · rw [if_pos hq3] at h
      refine v_iconst F dX8_isUnder_38 ⟨by decide, by decide⟩ ?_
      refine v_fgt (L' := [mA o, mI a1, mA (o + 209), mU, mI v4]) ⟨Or.inl rfl, Or.inl rfl, Or.inl rfl, Or.inr rfl, Or.inl rfl, trivial⟩ ?_
      exact fX8_isUnder_39_ok F hX hp h K
    · rw [if_neg hq3] at h
      refine v_aload_n F dX8_isUnder_25 rfl rfl ?_
      refine v_iload F dX8_isUnder_26 rfl ?_
      refine v_aaldF (c := 8) (k := 35) F dX8_isUnder_28 hp (Nat.le_of_ble_eq_true rfl) (Nat.le_of_ble_eq_true rfl) (by decide) (by decide) rfl (ar_X8_35 hX hp) (Nat.le_of_ble_eq_true rfl) rfl rfl rfl rfl hi2 (v := ((o + 210) + v4)) (by show o + 210 + 1 * v4 = _; omega) ?_
      refine v_iload_n F dX8_isUnder_29 rfl rfl ?_
      obtain ⟨hi6, h⟩ := ck_some h
      refine v_zald F dX8_isUnder_30 (ae_X8_35 (i := v4) hX hp hi2 (v := ((o + 210) + v4)) (by omega)) hi6 ?_
      refine v_if_eq F dX8_isUnder_31 rfl (fun hq7 => ?_) (fun hq7 => ?_)
      · rw [if_pos hq7] at h
        refine v_iconst F dX8_isUnder_38 ⟨by decide, by decide⟩ ?_
        refine v_fgt (L' := [mA o, mI a1, mA (o + 209), mU, mI v4]) ⟨Or.inl rfl, Or.inl rfl, Or.inl rfl, Or.inr rfl, Or.inl rfl, trivial⟩ ?_
        exact fX8_isUnder_39_ok F hX hp h K
      · rw [if_neg hq7] at h
        refine v_iconst F dX8_isUnder_34 ⟨by decide, by decide⟩ ?_
        refine v_goto F dX8_isUnder_35 rfl ?_
        refine v_fgt (L' := [mA o, mI a1, mA (o + 209), mU, mI v4]) ⟨Or.inl rfl, Or.inl rfl, Or.inl rfl, Or.inr rfl, Or.inl rfl, trivial⟩ ?_
        exact fX8_isUnder_39_ok F hX hp h K
theorem fX8_isUnder_5_ok {w : Wd} {l : Launch} {G : Cx} {d m dd : Dt} {o a1 v3 v4 : Int} {r : Int} {x : Int} (F : Fx w G cX8_isUnder RX8 5 (some .boolean) { frames := 0, cells := 0, slots := 0, locals := 0 }) (hX : WF dd m) (hp : PB m o 8) (h : fX8_isUnder_5 d o a1 v3 v4 = some x) (K : (fun q => q = r) x) : V w l WF G (QM w G WF (some (mI r)) d m 0 0) d m 0 0 5 [mA o, mI a1, mA (o + 209), mI v3, mI v4] [] := by
  unfold fX8_isUnder_5 at h
  exact loop_ok (P := fX8_isUnder_5P w l G (QM w G WF (some (mI r)) d m 0 0) m d o a1) (fun s x hx h1 h2 => fX8_isUnder_5f_ok F hX hp hx (by
    cases x with
    | inl s' => exact h1 s' rfl
    | inr z => cases h2 z rfl; exact K)) h
theorem vm_X8_isUnder {w : Wd} {l : Launch} {d m : Dt} {o a1 : Int} {r : Int} (hp : PB m o 8) (h : fX8_isUnder d o a1 = some r) : VM w l WF yX8_isUnder cX8_isUnder 5 (some .boolean) 0 0 0 0 d m [mA o, mI a1, mA (o + 209)] (some (mI r)) d m := by
  obtain ⟨x, h, K⟩ : ∃ x, fX8_isUnder d o a1 = some x ∧ x = r := ⟨_, h, rfl⟩
  refine VM.of (L := [mA o, mI a1, mA (o + 209), mU, mU]) (by decide +kernel) rfl (Nat.le_of_ble_eq_true rfl) fun G F _ => v_fact fun _ hX _ _ => ?_
  unfold fX8_isUnder at h
  refine v_iconst F dX8_isUnder_0 ⟨by decide, by decide⟩ ?_
  refine v_istore_n F dX8_isUnder_1 rfl (Nat.le_of_ble_eq_true rfl) (L' := [mA o, mI a1, mA (o + 209), mI 0, mU]) rfl ?_
  refine v_iconst F dX8_isUnder_2 ⟨by decide, by decide⟩ ?_
  refine v_istore F dX8_isUnder_3 (Nat.le_of_ble_eq_true rfl) (L' := [mA o, mI a1, mA (o + 209), mI 0, mI 0]) rfl ?_
  exact fX8_isUnder_5_ok F hX hp h K
def fX8_isBehind_4P (w : Wd) (l : Launch) (G : Cx) (Q : State → Prop) (m : Dt) (d : Dt) (o a1 : Int) (s : Int × Int) : Prop := V w l WF G Q d m 0 0 4 [mA o, mI a1, mI (s.1), mI (s.2)] []
theorem fX8_isBehind_46_ok {w : Wd} {l : Launch} {G : Cx} {d m dd : Dt} {o a1 v3 s0 s1 : Int} {r : Int} {x : ((Int × Int) ⊕ Int)} (F : Fx w G cX8_isBehind RX8 4 (some .boolean) { frames := 0, cells := 0, slots := 0, locals := 0 }) (hX : WF dd m) (hp : PB m o 8) (h : fX8_isBehind_46 d o a1 v3 s0 s1 = some x) (K : (Sum.elim (fX8_isBehind_4P w l G (QM w G WF (some (mI r)) d m 0 0) m d o a1) (fun q => q = r)) x) : V w l WF G (QM w G WF (some (mI r)) d m 0 0) d m 0 0 46 [mA o, mI a1, mU, mI v3] [mI s1, mI s0] := by
  unfold fX8_isBehind_46 at h
  refine v_ior F dX8_isBehind_46 ?_
  obtain ⟨x4, ex4, h⟩ := lv_some h
  refine v_nI ex4 ?_
  refine v_istore_n F dX8_isBehind_47 rfl (Nat.le_of_ble_eq_true rfl) (L' := [mA o, mI a1, mI x4, mI v3]) rfl ?_
  obtain ⟨x5, ex5, h⟩ := lv_some h
  refine v_iincN F dX8_isBehind_48 (Nat.le_of_ble_eq_true rfl) rfl ex5 (L' := [mA o, mI a1, mI x4, mI x5]) rfl ?_
  refine v_goto F dX8_isBehind_51 rfl ?_
  cases h
  exact K
theorem fX8_isBehind_4f_ok {w : Wd} {l : Launch} {G : Cx} {d m dd : Dt} {o a1 : Int} {r : Int} {s : Int × Int} {x : ((Int × Int) ⊕ Int)} (F : Fx w G cX8_isBehind RX8 4 (some .boolean) { frames := 0, cells := 0, slots := 0, locals := 0 }) (hX : WF dd m) (hp : PB m o 8) (h : fX8_isBehind_4f d o a1 s = some x) (K : (Sum.elim (fX8_isBehind_4P w l G (QM w G WF (some (mI r)) d m 0 0) m d o a1) (fun q => q = r)) x) : V w l WF G (QM w G WF (some (mI r)) d m 0 0) d m 0 0 4 [mA o, mI a1, mI (s.1), mI (s.2)] [] := by
  obtain ⟨v2, v3⟩ := s
  unfold fX8_isBehind_4f at h
  dsimp only at h
  refine v_iload_n F dX8_isBehind_4 rfl rfl ?_
  refine v_aload_n F dX8_isBehind_5 rfl rfl ?_
  refine gf_X8_148 F dX8_isBehind_6 hp ?_
  refine v_icmp_ge F dX8_isBehind_9 rfl (fun hq1 => ?_) (fun hq1 => ?_)
  · rw [if_pos hq1] at h
    obtain ⟨z, hu, ez⟩ := up_some h
    clear h
    subst ez
    have h := hu
    clear hu
    refine v_iload_n F dX8_isBehind_54 rfl rfl ?_
    obtain ⟨hb, h⟩ := ck_some h
    cases h
    cases (show _ = r from K)
    exact v_zret F hb dX8_isBehind_55
  · rw [if_neg hq1] at h
    refine v_iload_n F dX8_isBehind_12 rfl rfl ?_
    refine v_aload_n F dX8_isBehind_13 rfl rfl ?_
    refine gf_X8_92 F dX8_isBehind_14 hp (v := (o + 229)) rfl ?_
    refine v_iload_n F dX8_isBehind_17 rfl rfl ?_
    obtain ⟨hi2, h⟩ := ck_some h
    refine v_zald F dX8_isBehind_18 (ar_X8_37 hX hp) hi2 ?_
    refine v_if_eq F dX8_isBehind_19 rfl (fun hq3 => ?_) (fun hq3 => ?_)
    · rw [if_pos hq3] at h
      refine v_iconst F dX8_isBehind_45 ⟨by decide, by decide⟩ ?_
      refine v_fgt (L' := [mA o, mI a1, mU, mI v3]) ⟨Or.inl rfl, Or.inl rfl, Or.inr rfl, Or.inl rfl, trivial⟩ ?_
      exact fX8_isBehind_46_ok F hX hp h K
    · rw [if_neg hq3] at h
      refine v_aload_n F dX8_isBehind_22 rfl rfl ?_
      refine gf_X8_89 F dX8_isBehind_23 hp (v := (o + 219)) rfl ?_
      refine v_iload_n F dX8_isBehind_26 rfl rfl ?_
      refine v_aaldF (c := 8) (k := 36) F dX8_isBehind_27 hp (Nat.le_of_ble_eq_true rfl) (Nat.le_of_ble_eq_true rfl) (by decide) (by decide) rfl (ar_X8_36 hX hp) (Nat.le_of_ble_eq_true rfl) rfl rfl rfl rfl hi2 (v := ((o + 220) + v3)) (by show o + 220 + 1 * v3 = _; omega) ?_
      refine v_iload_n F dX8_isBehind_28 rfl rfl ?_
      obtain ⟨hi6, h⟩ := ck_some h
      refine v_iald F dX8_isBehind_29 (ae_X8_36 (i := v3) hX hp hi2 (v := ((o + 220) + v3)) (by omega)) hi6 ?_
      refine v_aload_n F dX8_isBehind_30 rfl rfl ?_
      refine gf_X8_89 F dX8_isBehind_31 hp (v := (o + 219)) rfl ?_
      refine v_iload_n F dX8_isBehind_34 rfl rfl ?_
      refine v_aaldF (c := 8) (k := 36) F dX8_isBehind_35 hp (Nat.le_of_ble_eq_true rfl) (Nat.le_of_ble_eq_true rfl) (by decide) (by decide) rfl (ar_X8_36 hX hp) (Nat.le_of_ble_eq_true rfl) rfl rfl rfl rfl hi6 (v := ((o + 220) + a1)) (by show o + 220 + 1 * a1 = _; omega) ?_
      refine v_iload_n F dX8_isBehind_36 rfl rfl ?_
      refine v_iald F dX8_isBehind_37 (ae_X8_36 (i := a1) hX hp hi6 (v := ((o + 220) + a1)) (by omega)) hi2 ?_
      refine v_icmp_le F dX8_isBehind_38 rfl (fun hq7 => ?_) (fun hq7 => ?_)
      · rw [if_pos hq7] at h
        refine v_iconst F dX8_isBehind_45 ⟨by decide, by decide⟩ ?_
        refine v_fgt (L' := [mA o, mI a1, mU, mI v3]) ⟨Or.inl rfl, Or.inl rfl, Or.inr rfl, Or.inl rfl, trivial⟩ ?_
        exact fX8_isBehind_46_ok F hX hp h K
      · rw [if_neg hq7] at h
        refine v_iconst F dX8_isBehind_41 ⟨by decide, by decide⟩ ?_
        refine v_goto F dX8_isBehind_42 rfl ?_
        refine v_fgt (L' := [mA o, mI a1, mU, mI v3]) ⟨Or.inl rfl, Or.inl rfl, Or.inr rfl, Or.inl rfl, trivial⟩ ?_
        exact fX8_isBehind_46_ok F hX hp h K
theorem fX8_isBehind_4_ok {w : Wd} {l : Launch} {G : Cx} {d m dd : Dt} {o a1 v2 v3 : Int} {r : Int} {x : Int} (F : Fx w G cX8_isBehind RX8 4 (some .boolean) { frames := 0, cells := 0, slots := 0, locals := 0 }) (hX : WF dd m) (hp : PB m o 8) (h : fX8_isBehind_4 d o a1 v2 v3 = some x) (K : (fun q => q = r) x) : V w l WF G (QM w G WF (some (mI r)) d m 0 0) d m 0 0 4 [mA o, mI a1, mI v2, mI v3] [] := by
  unfold fX8_isBehind_4 at h
  exact loop_ok (P := fX8_isBehind_4P w l G (QM w G WF (some (mI r)) d m 0 0) m d o a1) (fun s x hx h1 h2 => fX8_isBehind_4f_ok F hX hp hx (by
    cases x with
    | inl s' => exact h1 s' rfl
    | inr z => cases h2 z rfl; exact K)) h
theorem vm_X8_isBehind {w : Wd} {l : Launch} {d m : Dt} {o a1 : Int} {r : Int} (hp : PB m o 8) (h : fX8_isBehind d o a1 = some r) : VM w l WF yX8_isBehind cX8_isBehind 4 (some .boolean) 0 0 0 0 d m [mA o, mI a1] (some (mI r)) d m := by
  obtain ⟨x, h, K⟩ : ∃ x, fX8_isBehind d o a1 = some x ∧ x = r := ⟨_, h, rfl⟩
  refine VM.of (L := [mA o, mI a1, mU, mU]) (by decide +kernel) rfl (Nat.le_of_ble_eq_true rfl) fun G F _ => v_fact fun _ hX _ _ => ?_
  unfold fX8_isBehind at h
  refine v_iconst F dX8_isBehind_0 ⟨by decide, by decide⟩ ?_
  refine v_istore_n F dX8_isBehind_1 rfl (Nat.le_of_ble_eq_true rfl) (L' := [mA o, mI a1, mI 0, mU]) rfl ?_
  refine v_iconst F dX8_isBehind_2 ⟨by decide, by decide⟩ ?_
  refine v_istore_n F dX8_isBehind_3 rfl (Nat.le_of_ble_eq_true rfl) (L' := [mA o, mI a1, mI 0, mI 0]) rfl ?_
  exact fX8_isBehind_4_ok F hX hp h K
def fX8_covers_12P (w : Wd) (l : Launch) (G : Cx) (Q : State → Prop) (m : Dt) (d : Dt) (o a1 a2 : Int) (s : Int × Int) : Prop := V w l WF G Q d m 0 0 12 [mA o, mI a1, mI a2, mI (s.1), mI (s.2)] []
theorem fX8_covers_61_ok {w : Wd} {l : Launch} {G : Cx} {d m dd : Dt} {o a1 a2 v4 s0 s1 : Int} {r : Int} {x : ((Int × Int) ⊕ Int)} (F : Fx w G cX8_covers RX8 5 (some .boolean) { frames := 0, cells := 0, slots := 0, locals := 0 }) (hX : WF dd m) (hp : PB m o 8) (h : fX8_covers_61 d o a1 a2 v4 s0 s1 = some x) (K : (Sum.elim (fX8_covers_12P w l G (QM w G WF (some (mI r)) d m 0 0) m d o a1 a2) (fun q => q = r)) x) : V w l WF G (QM w G WF (some (mI r)) d m 0 0) d m 0 0 61 [mA o, mI a1, mI a2, mU, mI v4] [mI s1, mI s0] := by
  unfold fX8_covers_61 at h
  refine v_iand F dX8_covers_61 ?_
  obtain ⟨x7, ex7, h⟩ := lv_some h
  refine v_nI ex7 ?_
  refine v_istore_n F dX8_covers_62 rfl (Nat.le_of_ble_eq_true rfl) (L' := [mA o, mI a1, mI a2, mI x7, mI v4]) rfl ?_
  obtain ⟨x8, ex8, h⟩ := lv_some h
  refine v_iincN F dX8_covers_63 (Nat.le_of_ble_eq_true rfl) rfl ex8 (L' := [mA o, mI a1, mI a2, mI x7, mI x8]) rfl ?_
  refine v_goto F dX8_covers_66 rfl ?_
  cases h
  exact K
theorem fX8_covers_12f_ok {w : Wd} {l : Launch} {G : Cx} {d m dd : Dt} {o a1 a2 : Int} {r : Int} {s : Int × Int} {x : ((Int × Int) ⊕ Int)} (F : Fx w G cX8_covers RX8 5 (some .boolean) { frames := 0, cells := 0, slots := 0, locals := 0 }) (hX : WF dd m) (hp : PB m o 8) (h : fX8_covers_12f d o a1 a2 s = some x) (K : (Sum.elim (fX8_covers_12P w l G (QM w G WF (some (mI r)) d m 0 0) m d o a1 a2) (fun q => q = r)) x) : V w l WF G (QM w G WF (some (mI r)) d m 0 0) d m 0 0 12 [mA o, mI a1, mI a2, mI (s.1), mI (s.2)] [] := by
  obtain ⟨v3, v4⟩ := s
  unfold fX8_covers_12f at h
  dsimp only at h
  refine v_iload F dX8_covers_12 rfl ?_
  refine v_aload_n F dX8_covers_14 rfl rfl ?_
  refine gf_X8_148 F dX8_covers_15 hp ?_
  refine v_icmp_ge F dX8_covers_18 rfl (fun hq4 => ?_) (fun hq4 => ?_)
  · rw [if_pos hq4] at h
    obtain ⟨z, hu, ez⟩ := up_some h
    clear h
    subst ez
    have h := hu
    clear hu
    refine v_iload_n F dX8_covers_69 rfl rfl ?_
    obtain ⟨hb, h⟩ := ck_some h
    cases h
    cases (show _ = r from K)
    exact v_zret F hb dX8_covers_70
  · rw [if_neg hq4] at h
    refine v_iload_n F dX8_covers_21 rfl rfl ?_
    refine v_aload_n F dX8_covers_22 rfl rfl ?_
    refine gf_X8_92 F dX8_covers_23 hp (v := (o + 229)) rfl ?_
    refine v_iload F dX8_covers_26 rfl ?_
    obtain ⟨hi5, h⟩ := ck_some h
    refine v_zald F dX8_covers_28 (ar_X8_37 hX hp) hi5 ?_
    refine v_if_eq F dX8_covers_29 rfl (fun hq6 => ?_) (fun hq6 => ?_)
    · rw [if_pos hq6] at h
      refine v_iconst F dX8_covers_56 ⟨by decide, by decide⟩ ?_
      refine v_goto F dX8_covers_57 rfl ?_
      refine v_fgt (L' := [mA o, mI a1, mI a2, mU, mI v4]) ⟨Or.inl rfl, Or.inl rfl, Or.inl rfl, Or.inr rfl, Or.inl rfl, trivial⟩ ?_
      exact fX8_covers_61_ok F hX hp h K
    · rw [if_neg hq6] at h
      refine v_aload_n F dX8_covers_32 rfl rfl ?_
      refine gf_X8_83 F dX8_covers_33 hp (v := (o + 199)) rfl ?_
      refine v_iload_n F dX8_covers_36 rfl rfl ?_
      obtain ⟨hi9, h⟩ := ck_some h
      refine v_aaldF (c := 8) (k := 34) F dX8_covers_37 hp (Nat.le_of_ble_eq_true rfl) (Nat.le_of_ble_eq_true rfl) (by decide) (by decide) rfl (ar_X8_34 hX hp) (Nat.le_of_ble_eq_true rfl) rfl rfl rfl rfl hi9 (v := ((o + 200) + a2)) (by show o + 200 + 1 * a2 = _; omega) ?_
      refine v_iload F dX8_covers_38 rfl ?_
      refine v_zald F dX8_covers_40 (ae_X8_34 (i := a2) hX hp hi9 (v := ((o + 200) + a2)) (by omega)) hi5 ?_
      refine v_if_eq F dX8_covers_41 rfl (fun hq10 => ?_) (fun hq10 => ?_)
      · rw [if_pos hq10] at h
        refine v_iconst F dX8_covers_56 ⟨by decide, by decide⟩ ?_
        refine v_goto F dX8_covers_57 rfl ?_
        refine v_fgt (L' := [mA o, mI a1, mI a2, mU, mI v4]) ⟨Or.inl rfl, Or.inl rfl, Or.inl rfl, Or.inr rfl, Or.inl rfl, trivial⟩ ?_
        exact fX8_covers_61_ok F hX hp h K
      · rw [if_neg hq10] at h
        refine v_aload_n F dX8_covers_44 rfl rfl ?_
        refine gf_X8_83 F dX8_covers_45 hp (v := (o + 199)) rfl ?_
        refine v_iload_n F dX8_covers_48 rfl rfl ?_
        obtain ⟨hi11, h⟩ := ck_some h
        refine v_aaldF (c := 8) (k := 34) F dX8_covers_49 hp (Nat.le_of_ble_eq_true rfl) (Nat.le_of_ble_eq_true rfl) (by decide) (by decide) rfl (ar_X8_34 hX hp) (Nat.le_of_ble_eq_true rfl) rfl rfl rfl rfl hi11 (v := ((o + 200) + a1)) (by show o + 200 + 1 * a1 = _; omega) ?_
        refine v_iload F dX8_covers_50 rfl ?_
        refine v_zald F dX8_covers_52 (ae_X8_34 (i := a1) hX hp hi11 (v := ((o + 200) + a1)) (by omega)) hi5 ?_
        refine v_if_eq F dX8_covers_53 rfl (fun hq12 => ?_) (fun hq12 => ?_)
        · rw [if_pos hq12] at h
          refine v_iconst F dX8_covers_60 ⟨by decide, by decide⟩ ?_
          refine v_fgt (L' := [mA o, mI a1, mI a2, mU, mI v4]) ⟨Or.inl rfl, Or.inl rfl, Or.inl rfl, Or.inr rfl, Or.inl rfl, trivial⟩ ?_
          exact fX8_covers_61_ok F hX hp h K
        · rw [if_neg hq12] at h
          refine v_iconst F dX8_covers_56 ⟨by decide, by decide⟩ ?_
          refine v_goto F dX8_covers_57 rfl ?_
          refine v_fgt (L' := [mA o, mI a1, mI a2, mU, mI v4]) ⟨Or.inl rfl, Or.inl rfl, Or.inl rfl, Or.inr rfl, Or.inl rfl, trivial⟩ ?_
          exact fX8_covers_61_ok F hX hp h K
theorem fX8_covers_12_ok {w : Wd} {l : Launch} {G : Cx} {d m dd : Dt} {o a1 a2 v3 v4 : Int} {r : Int} {x : Int} (F : Fx w G cX8_covers RX8 5 (some .boolean) { frames := 0, cells := 0, slots := 0, locals := 0 }) (hX : WF dd m) (hp : PB m o 8) (h : fX8_covers_12 d o a1 a2 v3 v4 = some x) (K : (fun q => q = r) x) : V w l WF G (QM w G WF (some (mI r)) d m 0 0) d m 0 0 12 [mA o, mI a1, mI a2, mI v3, mI v4] [] := by
  unfold fX8_covers_12 at h
  exact loop_ok (P := fX8_covers_12P w l G (QM w G WF (some (mI r)) d m 0 0) m d o a1 a2) (fun s x hx h1 h2 => fX8_covers_12f_ok F hX hp hx (by
    cases x with
    | inl s' => exact h1 s' rfl
    | inr z => cases h2 z rfl; exact K)) h
theorem vm_X8_covers {w : Wd} {l : Launch} {d m : Dt} {o a1 a2 : Int} {r : Int} (hp : PB m o 8) (h : fX8_covers d o a1 a2 = some r) : VM w l WF yX8_covers cX8_covers 5 (some .boolean) 0 0 0 0 d m [mA o, mI a1, mI a2] (some (mI r)) d m := by
  obtain ⟨x, h, K⟩ : ∃ x, fX8_covers d o a1 a2 = some x ∧ x = r := ⟨_, h, rfl⟩
  refine VM.of (L := [mA o, mI a1, mI a2, mU, mU]) (by decide +kernel) rfl (Nat.le_of_ble_eq_true rfl) fun G F _ => v_fact fun _ hX _ _ => ?_
  unfold fX8_covers at h
  refine v_aload_n F dX8_covers_0 rfl rfl ?_
  refine gf_X8_83 F dX8_covers_1 hp (v := (o + 199)) rfl ?_
  refine v_iload_n F dX8_covers_4 rfl rfl ?_
  obtain ⟨hi1, h⟩ := ck_some h
  refine v_aaldF (c := 8) (k := 34) F dX8_covers_5 hp (Nat.le_of_ble_eq_true rfl) (Nat.le_of_ble_eq_true rfl) (by decide) (by decide) rfl (ar_X8_34 hX hp) (Nat.le_of_ble_eq_true rfl) rfl rfl rfl rfl hi1 (v := ((o + 200) + a1)) (by show o + 200 + 1 * a1 = _; omega) ?_
  refine v_iload_n F dX8_covers_6 rfl rfl ?_
  obtain ⟨hi2, h⟩ := ck_some h
  refine v_zald F dX8_covers_7 (ae_X8_34 (i := a1) hX hp hi1 (v := ((o + 200) + a1)) (by omega)) hi2 ?_
  obtain ⟨x3, ex3, h⟩ := lv_some h
  refine v_nI ex3 ?_
  refine v_istore_n F dX8_covers_8 rfl (Nat.le_of_ble_eq_true rfl) (L' := [mA o, mI a1, mI a2, mI x3, mU]) rfl ?_
  refine v_iconst F dX8_covers_9 ⟨by decide, by decide⟩ ?_
  refine v_istore F dX8_covers_10 (Nat.le_of_ble_eq_true rfl) (L' := [mA o, mI a1, mI a2, mI x3, mI 0]) rfl ?_
  exact fX8_covers_12_ok F hX hp h K
def fX8_isCovered_4P (w : Wd) (l : Launch) (G : Cx) (Q : State → Prop) (m : Dt) (d : Dt) (o a1 : Int) (s : Int × Int) : Prop := V w l WF G Q d m 0 0 4 [mA o, mI a1, mI (s.1), mI (s.2)] []
theorem fX8_isCovered_36_ok {w : Wd} {l : Launch} {G : Cx} {d m dd : Dt} {o a1 v3 s0 s1 : Int} {r : Int} {x : ((Int × Int) ⊕ Int)} (F : Fx w G cX8_isCovered RX8 4 (some .boolean) { frames := 1, cells := 0, slots := 0, locals := 24 }) (hX : WF dd m) (hp : PB m o 8) (h : fX8_isCovered_36 d o a1 v3 s0 s1 = some x) (K : (Sum.elim (fX8_isCovered_4P w l G (QM w G WF (some (mI r)) d m 0 0) m d o a1) (fun q => q = r)) x) : V w l WF G (QM w G WF (some (mI r)) d m 0 0) d m 0 0 36 [mA o, mI a1, mU, mI v3] [mI s1, mI s0] := by
  unfold fX8_isCovered_36 at h
  refine v_ior F dX8_isCovered_36 ?_
  obtain ⟨x4, ex4, h⟩ := lv_some h
  refine v_nI ex4 ?_
  refine v_istore_n F dX8_isCovered_37 rfl (Nat.le_of_ble_eq_true rfl) (L' := [mA o, mI a1, mI x4, mI v3]) rfl ?_
  obtain ⟨x5, ex5, h⟩ := lv_some h
  refine v_iincN F dX8_isCovered_38 (Nat.le_of_ble_eq_true rfl) rfl ex5 (L' := [mA o, mI a1, mI x4, mI x5]) rfl ?_
  refine v_goto F dX8_isCovered_41 rfl ?_
  cases h
  exact K
theorem fX8_isCovered_4f_ok {w : Wd} {l : Launch} {G : Cx} {d m dd : Dt} {o a1 : Int} {r : Int} {s : Int × Int} {x : ((Int × Int) ⊕ Int)} (F : Fx w G cX8_isCovered RX8 4 (some .boolean) { frames := 1, cells := 0, slots := 0, locals := 24 }) (hX : WF dd m) (hp : PB m o 8) (h : fX8_isCovered_4f d o a1 s = some x) (K : (Sum.elim (fX8_isCovered_4P w l G (QM w G WF (some (mI r)) d m 0 0) m d o a1) (fun q => q = r)) x) : V w l WF G (QM w G WF (some (mI r)) d m 0 0) d m 0 0 4 [mA o, mI a1, mI (s.1), mI (s.2)] [] := by
  obtain ⟨v2, v3⟩ := s
  unfold fX8_isCovered_4f at h
  dsimp only at h
  refine v_iload_n F dX8_isCovered_4 rfl rfl ?_
  refine v_aload_n F dX8_isCovered_5 rfl rfl ?_
  refine gf_X8_148 F dX8_isCovered_6 hp ?_
  refine v_icmp_ge F dX8_isCovered_9 rfl (fun hq1 => ?_) (fun hq1 => ?_)
  · rw [if_pos hq1] at h
    obtain ⟨z, hu, ez⟩ := up_some h
    clear h
    subst ez
    have h := hu
    clear hu
    refine v_iload_n F dX8_isCovered_44 rfl rfl ?_
    obtain ⟨hb, h⟩ := ck_some h
    cases h
    cases (show _ = r from K)
    exact v_zret F hb dX8_isCovered_45
  · rw [if_neg hq1] at h
    refine v_iload_n F dX8_isCovered_12 rfl rfl ?_
    refine v_aload_n F dX8_isCovered_13 rfl rfl ?_
    refine gf_X8_92 F dX8_isCovered_14 hp (v := (o + 229)) rfl ?_
    refine v_iload_n F dX8_isCovered_17 rfl rfl ?_
    obtain ⟨hi2, h⟩ := ck_some h
    refine v_zald F dX8_isCovered_18 (ar_X8_37 hX hp) hi2 ?_
    refine v_if_eq F dX8_isCovered_19 rfl (fun hq3 => ?_) (fun hq3 => ?_)
    · rw [if_pos hq3] at h
      refine v_iconst F dX8_isCovered_35 ⟨by decide, by decide⟩ ?_
      refine v_fgt (L' := [mA o, mI a1, mU, mI v3]) ⟨Or.inl rfl, Or.inl rfl, Or.inr rfl, Or.inl rfl, trivial⟩ ?_
      exact fX8_isCovered_36_ok F hX hp h K
    · rw [if_neg hq3] at h
      refine v_aload_n F dX8_isCovered_22 rfl rfl ?_
      refine v_iload_n F dX8_isCovered_23 rfl rfl ?_
      refine v_iload_n F dX8_isCovered_24 rfl rfl ?_
      obtain ⟨x6, hc7, h⟩ := b1_some h
      refine v_callVv (c := 8) F dX8_isCovered_25 cv_X8_381 rfl (PB.ob hp hX (Nat.le_of_ble_eq_true rfl)) (Nat.le_of_ble_eq_true rfl) rfl (vm_X8_covers hp hc7) rfl (rOk.of rfl) ?_
      refine v_if_eq F dX8_isCovered_28 rfl (fun hq8 => ?_) (fun hq8 => ?_)
      · rw [if_pos hq8] at h
        refine v_iconst F dX8_isCovered_35 ⟨by decide, by decide⟩ ?_
        refine v_fgt (L' := [mA o, mI a1, mU, mI v3]) ⟨Or.inl rfl, Or.inl rfl, Or.inr rfl, Or.inl rfl, trivial⟩ ?_
        exact fX8_isCovered_36_ok F hX hp h K
      · rw [if_neg hq8] at h
        refine v_iconst F dX8_isCovered_31 ⟨by decide, by decide⟩ ?_
        refine v_goto F dX8_isCovered_32 rfl ?_
        refine v_fgt (L' := [mA o, mI a1, mU, mI v3]) ⟨Or.inl rfl, Or.inl rfl, Or.inr rfl, Or.inl rfl, trivial⟩ ?_
        exact fX8_isCovered_36_ok F hX hp h K
theorem fX8_isCovered_4_ok {w : Wd} {l : Launch} {G : Cx} {d m dd : Dt} {o a1 v2 v3 : Int} {r : Int} {x : Int} (F : Fx w G cX8_isCovered RX8 4 (some .boolean) { frames := 1, cells := 0, slots := 0, locals := 24 }) (hX : WF dd m) (hp : PB m o 8) (h : fX8_isCovered_4 d o a1 v2 v3 = some x) (K : (fun q => q = r) x) : V w l WF G (QM w G WF (some (mI r)) d m 0 0) d m 0 0 4 [mA o, mI a1, mI v2, mI v3] [] := by
  unfold fX8_isCovered_4 at h
  exact loop_ok (P := fX8_isCovered_4P w l G (QM w G WF (some (mI r)) d m 0 0) m d o a1) (fun s x hx h1 h2 => fX8_isCovered_4f_ok F hX hp hx (by
    cases x with
    | inl s' => exact h1 s' rfl
    | inr z => cases h2 z rfl; exact K)) h
theorem vm_X8_isCovered {w : Wd} {l : Launch} {d m : Dt} {o a1 : Int} {r : Int} (hp : PB m o 8) (h : fX8_isCovered d o a1 = some r) : VM w l WF yX8_isCovered cX8_isCovered 4 (some .boolean) 1 24 0 0 d m [mA o, mI a1] (some (mI r)) d m := by
  obtain ⟨x, h, K⟩ : ∃ x, fX8_isCovered d o a1 = some x ∧ x = r := ⟨_, h, rfl⟩
  refine VM.of (L := [mA o, mI a1, mU, mU]) (by decide +kernel) rfl (Nat.le_of_ble_eq_true rfl) fun G F _ => v_fact fun _ hX _ _ => ?_
  unfold fX8_isCovered at h
  refine v_iconst F dX8_isCovered_0 ⟨by decide, by decide⟩ ?_
  refine v_istore_n F dX8_isCovered_1 rfl (Nat.le_of_ble_eq_true rfl) (L' := [mA o, mI a1, mI 0, mU]) rfl ?_
  refine v_iconst F dX8_isCovered_2 ⟨by decide, by decide⟩ ?_
  refine v_istore_n F dX8_isCovered_3 rfl (Nat.le_of_ble_eq_true rfl) (L' := [mA o, mI a1, mI 0, mI 0]) rfl ?_
  exact fX8_isCovered_4_ok F hX hp h K
def fX8_score_4P (w : Wd) (l : Launch) (G : Cx) (Q : State → Prop) (m : Dt) (d : Dt) (o a1 : Int) (s : Int × Int) : Prop := V w l WF G Q d m 0 0 4 [mA o, mI a1, mI (s.1), mI (s.2)] []
theorem fX8_score_62_ok {w : Wd} {l : Launch} {G : Cx} {d m dd : Dt} {o a1 v3 s0 s1 : Int} {r : Int} {x : ((Int × Int) ⊕ Int)} (F : Fx w G cX8_score RX8 4 (some .int) { frames := 0, cells := 0, slots := 0, locals := 0 }) (hX : WF dd m) (hp : PB m o 8) (h : fX8_score_62 d o a1 v3 s0 s1 = some x) (K : (Sum.elim (fX8_score_4P w l G (QM w G WF (some (mI r)) d m 0 0) m d o a1) (fun q => q = r)) x) : V w l WF G (QM w G WF (some (mI r)) d m 0 0) d m 0 0 62 [mA o, mI a1, mU, mI v3] [mI s1, mI s0] := by
  unfold fX8_score_62 at h
  refine v_iadd F dX8_score_62 ?_
  obtain ⟨x6, ex6, h⟩ := lv_some h
  refine v_nI ex6 ?_
  refine v_istore_n F dX8_score_63 rfl (Nat.le_of_ble_eq_true rfl) (L' := [mA o, mI a1, mI x6, mI v3]) rfl ?_
  obtain ⟨x7, ex7, h⟩ := lv_some h
  refine v_iincN F dX8_score_64 (Nat.le_of_ble_eq_true rfl) rfl ex7 (L' := [mA o, mI a1, mI x6, mI x7]) rfl ?_
  refine v_goto F dX8_score_67 rfl ?_
  cases h
  exact K
theorem fX8_score_37_ok {w : Wd} {l : Launch} {G : Cx} {d m dd : Dt} {o a1 v3 s0 : Int} {r : Int} {x : ((Int × Int) ⊕ Int)} (F : Fx w G cX8_score RX8 4 (some .int) { frames := 0, cells := 0, slots := 0, locals := 0 }) (hX : WF dd m) (hp : PB m o 8) (h : fX8_score_37 d o a1 v3 s0 = some x) (K : (Sum.elim (fX8_score_4P w l G (QM w G WF (some (mI r)) d m 0 0) m d o a1) (fun q => q = r)) x) : V w l WF G (QM w G WF (some (mI r)) d m 0 0) d m 0 0 37 [mA o, mI a1, mU, mI v3] [mI s0] := by
  unfold fX8_score_37 at h
  refine v_aload_n F dX8_score_37 rfl rfl ?_
  refine gf_X8_92 F dX8_score_38 hp (v := (o + 229)) rfl ?_
  refine v_iload_n F dX8_score_41 rfl rfl ?_
  obtain ⟨hi4, h⟩ := ck_some h
  refine v_zald F dX8_score_42 (ar_X8_37 hX hp) hi4 ?_
  refine v_if_eq F dX8_score_43 rfl (fun hq5 => ?_) (fun hq5 => ?_)
  · rw [if_pos hq5] at h
    refine v_iconst F dX8_score_61 ⟨by decide, by decide⟩ ?_
    exact fX8_score_62_ok F hX hp h K
  · rw [if_neg hq5] at h
    refine v_aload_n F dX8_score_46 rfl rfl ?_
    refine gf_X8_83 F dX8_score_47 hp (v := (o + 199)) rfl ?_
    refine v_iload_n F dX8_score_50 rfl rfl ?_
    refine v_aaldF (c := 8) (k := 34) F dX8_score_51 hp (Nat.le_of_ble_eq_true rfl) (Nat.le_of_ble_eq_true rfl) (by decide) (by decide) rfl (ar_X8_34 hX hp) (Nat.le_of_ble_eq_true rfl) rfl rfl rfl rfl hi4 (v := ((o + 200) + v3)) (by show o + 200 + 1 * v3 = _; omega) ?_
    refine v_iload_n F dX8_score_52 rfl rfl ?_
    obtain ⟨hi8, h⟩ := ck_some h
    refine v_zald F dX8_score_53 (ae_X8_34 (i := v3) hX hp hi4 (v := ((o + 200) + v3)) (by omega)) hi8 ?_
    refine v_if_eq F dX8_score_54 rfl (fun hq9 => ?_) (fun hq9 => ?_)
    · rw [if_pos hq9] at h
      refine v_iconst F dX8_score_61 ⟨by decide, by decide⟩ ?_
      exact fX8_score_62_ok F hX hp h K
    · rw [if_neg hq9] at h
      refine v_iconst F dX8_score_57 ⟨by decide, by decide⟩ ?_
      refine v_goto F dX8_score_58 rfl ?_
      exact fX8_score_62_ok F hX hp h K
theorem fX8_score_4f_ok {w : Wd} {l : Launch} {G : Cx} {d m dd : Dt} {o a1 : Int} {r : Int} {s : Int × Int} {x : ((Int × Int) ⊕ Int)} (F : Fx w G cX8_score RX8 4 (some .int) { frames := 0, cells := 0, slots := 0, locals := 0 }) (hX : WF dd m) (hp : PB m o 8) (h : fX8_score_4f d o a1 s = some x) (K : (Sum.elim (fX8_score_4P w l G (QM w G WF (some (mI r)) d m 0 0) m d o a1) (fun q => q = r)) x) : V w l WF G (QM w G WF (some (mI r)) d m 0 0) d m 0 0 4 [mA o, mI a1, mI (s.1), mI (s.2)] [] := by
  obtain ⟨v2, v3⟩ := s
  unfold fX8_score_4f at h
  dsimp only at h
  refine v_iload_n F dX8_score_4 rfl rfl ?_
  refine v_aload_n F dX8_score_5 rfl rfl ?_
  refine gf_X8_148 F dX8_score_6 hp ?_
  refine v_icmp_ge F dX8_score_9 rfl (fun hq1 => ?_) (fun hq1 => ?_)
  · rw [if_pos hq1] at h
    obtain ⟨z, hu, ez⟩ := up_some h
    clear h
    subst ez
    have h := hu
    clear hu
    refine v_iload_n F dX8_score_70 rfl rfl ?_
    cases h
    cases (show _ = r from K)
    exact v_iret F dX8_score_71
  · rw [if_neg hq1] at h
    refine v_iload_n F dX8_score_12 rfl rfl ?_
    refine v_aload_n F dX8_score_13 rfl rfl ?_
    refine gf_X8_92 F dX8_score_14 hp (v := (o + 229)) rfl ?_
    refine v_iload_n F dX8_score_17 rfl rfl ?_
    obtain ⟨hi2, h⟩ := ck_some h
    refine v_zald F dX8_score_18 (ar_X8_37 hX hp) hi2 ?_
    refine v_if_eq F dX8_score_19 rfl (fun hq3 => ?_) (fun hq3 => ?_)
    · rw [if_pos hq3] at h
      refine v_fgt (L' := [mA o, mI a1, mU, mI v3]) ⟨Or.inl rfl, Or.inl rfl, Or.inr rfl, Or.inl rfl, trivial⟩ ?_
      exact fX8_score_37_ok F hX hp h K
    · rw [if_neg hq3] at h
      refine v_aload_n F dX8_score_22 rfl rfl ?_
      refine gf_X8_83 F dX8_score_23 hp (v := (o + 199)) rfl ?_
      refine v_iload_n F dX8_score_26 rfl rfl ?_
      obtain ⟨hi10, h⟩ := ck_some h
      refine v_aaldF (c := 8) (k := 34) F dX8_score_27 hp (Nat.le_of_ble_eq_true rfl) (Nat.le_of_ble_eq_true rfl) (by decide) (by decide) rfl (ar_X8_34 hX hp) (Nat.le_of_ble_eq_true rfl) rfl rfl rfl rfl hi10 (v := ((o + 200) + a1)) (by show o + 200 + 1 * a1 = _; omega) ?_
      refine v_iload_n F dX8_score_28 rfl rfl ?_
      refine v_zald F dX8_score_29 (ae_X8_34 (i := a1) hX hp hi10 (v := ((o + 200) + a1)) (by omega)) hi2 ?_
      refine v_if_eq F dX8_score_30 rfl (fun hq11 => ?_) (fun hq11 => ?_)
      · rw [if_pos hq11] at h
        refine v_fgt (L' := [mA o, mI a1, mU, mI v3]) ⟨Or.inl rfl, Or.inl rfl, Or.inr rfl, Or.inl rfl, trivial⟩ ?_
        exact fX8_score_37_ok F hX hp h K
      · rw [if_neg hq11] at h
        refine v_iconst F dX8_score_33 ⟨by decide, by decide⟩ ?_
        refine v_goto F dX8_score_34 rfl ?_
        refine v_fgt (L' := [mA o, mI a1, mU, mI v3]) ⟨Or.inl rfl, Or.inl rfl, Or.inr rfl, Or.inl rfl, trivial⟩ ?_
        exact fX8_score_62_ok F hX hp h K
theorem fX8_score_4_ok {w : Wd} {l : Launch} {G : Cx} {d m dd : Dt} {o a1 v2 v3 : Int} {r : Int} {x : Int} (F : Fx w G cX8_score RX8 4 (some .int) { frames := 0, cells := 0, slots := 0, locals := 0 }) (hX : WF dd m) (hp : PB m o 8) (h : fX8_score_4 d o a1 v2 v3 = some x) (K : (fun q => q = r) x) : V w l WF G (QM w G WF (some (mI r)) d m 0 0) d m 0 0 4 [mA o, mI a1, mI v2, mI v3] [] := by
  unfold fX8_score_4 at h
  exact loop_ok (P := fX8_score_4P w l G (QM w G WF (some (mI r)) d m 0 0) m d o a1) (fun s x hx h1 h2 => fX8_score_4f_ok F hX hp hx (by
    cases x with
    | inl s' => exact h1 s' rfl
    | inr z => cases h2 z rfl; exact K)) h
theorem vm_X8_score {w : Wd} {l : Launch} {d m : Dt} {o a1 : Int} {r : Int} (hp : PB m o 8) (h : fX8_score d o a1 = some r) : VM w l WF yX8_score cX8_score 4 (some .int) 0 0 0 0 d m [mA o, mI a1] (some (mI r)) d m := by
  obtain ⟨x, h, K⟩ : ∃ x, fX8_score d o a1 = some x ∧ x = r := ⟨_, h, rfl⟩
  refine VM.of (L := [mA o, mI a1, mU, mU]) (by decide +kernel) rfl (Nat.le_of_ble_eq_true rfl) fun G F _ => v_fact fun _ hX _ _ => ?_
  unfold fX8_score at h
  refine v_iconst F dX8_score_0 ⟨by decide, by decide⟩ ?_
  refine v_istore_n F dX8_score_1 rfl (Nat.le_of_ble_eq_true rfl) (L' := [mA o, mI a1, mI 0, mU]) rfl ?_
  refine v_iconst F dX8_score_2 ⟨by decide, by decide⟩ ?_
  refine v_istore_n F dX8_score_3 rfl (Nat.le_of_ble_eq_true rfl) (L' := [mA o, mI a1, mI 0, mI 0]) rfl ?_
  exact fX8_score_4_ok F hX hp h K
theorem vm_X8_worthOf {w : Wd} {l : Launch} {d m : Dt} {o a1 : Int} {r : Int} (hp : PB m o 8) (h : fX8_worthOf d o a1 = some r) : VM w l WF yX8_worthOf cX8_worthOf 2 (some .int) 2 47 0 0 d m [mA o, mI a1] (some (mI r)) d m := by
  obtain ⟨x, h, K⟩ : ∃ x, fX8_worthOf d o a1 = some x ∧ x = r := ⟨_, h, rfl⟩
  refine VM.of (L := [mA o, mI a1]) (by decide +kernel) rfl (Nat.le_of_ble_eq_true rfl) fun G F _ => v_fact fun _ hX _ _ => ?_
  unfold fX8_worthOf at h
  refine v_aload_n F dX8_worthOf_0 rfl rfl ?_
  obtain ⟨x1, ex1, h⟩ := lv_some h
  obtain ⟨hn3, h⟩ := ck_some h
  refine gf_X8_131 F dX8_worthOf_1 hp ex1 fun hr2 => ?_
  have x1p := hr2.resolve_left hn3
  refine gf_X8_180 F dX8_worthOf_4 x1p ?_
  obtain ⟨x4, ex4, h⟩ := lv_some h
  refine v_nI ex4 ?_
  by_cases hq5 : x4 = 7
  · rw [if_pos hq5] at h
    refine v_tableIn F dX8_worthOf_7 hq5 (by decide) (by decide) rfl rfl ?_
    refine v_aload_n F dX8_worthOf_32 rfl rfl ?_
    refine v_iload_n F dX8_worthOf_33 rfl rfl ?_
    obtain ⟨x6, hc7, h⟩ := b1_some h
    refine v_callVv (c := 8) F dX8_worthOf_34 cv_X8_362 rfl (PB.ob hp hX (Nat.le_of_ble_eq_true rfl)) (Nat.le_of_ble_eq_true rfl) rfl (vm_X8_greatestDefeat hp hc7) rfl (rOk.of rfl) ?_
    refine v_ineg F dX8_worthOf_37 ?_
    cases h
    cases (show _ = r from K)
    exact v_iret F dX8_worthOf_38
  · rw [if_neg hq5] at h
    by_cases hq8 : x4 = 8
    · rw [if_pos hq8] at h
      refine v_tableIn F dX8_worthOf_7 hq8 (by decide) (by decide) rfl rfl ?_
      refine v_aload_n F dX8_worthOf_39 rfl rfl ?_
      refine v_iload_n F dX8_worthOf_40 rfl rfl ?_
      refine v_aload_n F dX8_worthOf_41 rfl rfl ?_
      refine gf_X8_86 F dX8_worthOf_42 hp (v := (o + 209)) rfl ?_
      obtain ⟨x9, hc10, h⟩ := b1_some h
      refine v_callVv (c := 8) F dX8_worthOf_45 cv_X8_365 rfl (PB.ob hp hX (Nat.le_of_ble_eq_true rfl)) (Nat.le_of_ble_eq_true rfl) rfl (vm_X8_isUnder hp hc10) rfl (rOk.of rfl) ?_
      refine v_if_eq F dX8_worthOf_48 rfl (fun hq11 => ?_) (fun hq11 => ?_)
      · rw [if_pos hq11] at h
        refine v_iconst F dX8_worthOf_55 ⟨by decide, by decide⟩ ?_
        cases h
        cases (show _ = r from K)
        exact v_iret F dX8_worthOf_56
      · rw [if_neg hq11] at h
        refine v_iconst F dX8_worthOf_51 ⟨by decide, by decide⟩ ?_
        refine v_goto F dX8_worthOf_52 rfl ?_
        cases h
        cases (show _ = r from K)
        exact v_iret F dX8_worthOf_56
    · rw [if_neg hq8] at h
      by_cases hq12 : x4 = 9
      · rw [if_pos hq12] at h
        refine v_tableIn F dX8_worthOf_7 hq12 (by decide) (by decide) rfl rfl ?_
        refine v_aload_n F dX8_worthOf_57 rfl rfl ?_
        refine v_iload_n F dX8_worthOf_58 rfl rfl ?_
        obtain ⟨x13, hc14, h⟩ := b1_some h
        refine v_callVv (c := 8) F dX8_worthOf_59 cv_X8_369 rfl (PB.ob hp hX (Nat.le_of_ble_eq_true rfl)) (Nat.le_of_ble_eq_true rfl) rfl (vm_X8_isBehind hp hc14) rfl (rOk.of rfl) ?_
        refine v_if_eq F dX8_worthOf_62 rfl (fun hq15 => ?_) (fun hq15 => ?_)
        · rw [if_pos hq15] at h
          refine v_iconst F dX8_worthOf_69 ⟨by decide, by decide⟩ ?_
          cases h
          cases (show _ = r from K)
          exact v_iret F dX8_worthOf_70
        · rw [if_neg hq15] at h
          refine v_iconst F dX8_worthOf_65 ⟨by decide, by decide⟩ ?_
          refine v_goto F dX8_worthOf_66 rfl ?_
          cases h
          cases (show _ = r from K)
          exact v_iret F dX8_worthOf_70
      · rw [if_neg hq12] at h
        refine v_tableOut F dX8_worthOf_7 (by omega) rfl ?_
        refine v_aload_n F dX8_worthOf_71 rfl rfl ?_
        refine v_iload_n F dX8_worthOf_72 rfl rfl ?_
        obtain ⟨x16, hc17, h⟩ := b1_some h
        refine v_callVv (c := 8) F dX8_worthOf_73 cv_X8_372 rfl (PB.ob hp hX (Nat.le_of_ble_eq_true rfl)) (Nat.le_of_ble_eq_true rfl) rfl (vm_X8_isCovered hp hc17) rfl (rOk.of rfl) ?_
        refine v_if_eq F dX8_worthOf_76 rfl (fun hq18 => ?_) (fun hq18 => ?_)
        · rw [if_pos hq18] at h
          refine v_aload_n F dX8_worthOf_85 rfl rfl ?_
          refine v_iload_n F dX8_worthOf_86 rfl rfl ?_
          obtain ⟨x19, hc20, h⟩ := b1_some h
          refine v_callVv (c := 8) F dX8_worthOf_87 cv_X8_375 rfl (PB.ob hp hX (Nat.le_of_ble_eq_true rfl)) (Nat.le_of_ble_eq_true rfl) rfl (vm_X8_score hp hc20) rfl (rOk.of rfl) ?_
          cases h
          cases (show _ = r from K)
          exact v_iret F dX8_worthOf_90
        · rw [if_neg hq18] at h
          refine v_sipush F dX8_worthOf_79 rfl ⟨by decide, by decide⟩ ?_
          refine v_goto F dX8_worthOf_82 rfl ?_
          cases h
          cases (show _ = r from K)
          exact v_iret F dX8_worthOf_90
def fX8_byOrder_2P (w : Wd) (l : Launch) (G : Cx) (Q : State → Prop) (m : Dt) (o : Int) (s : Dt × Int) : Prop := V w l WF G Q s.1 m 0 0 2 [mA o, mI (s.2), mU, mU, mU, mU] []
def fX8_byOrder_28P (w : Wd) (l : Launch) (G : Cx) (Q : State → Prop) (m : Dt) (o : Int) (s : Dt) : Prop := V w l WF G Q s m 0 0 28 [mA o, mU, mU, mU, mU, mU] []
def fX8_byOrder_48P (w : Wd) (l : Launch) (G : Cx) (Q : State → Prop) (m : Dt) (d : Dt) (o : Int) (s : Int × Int × Int) : Prop := V w l WF G Q d m 0 0 48 [mA o, mI (s.1), mI (s.2.1), mI (s.2.2), mU, mU] []
theorem fX8_byOrder_110_ok {w : Wd} {l : Launch} {G : Cx} {d m dd : Dt} {o v3 v4 v5 : Int} {d' : Dt} {x : ((Int × Int × Int) ⊕ ((Dt) ⊕ Dt))} (F : Fx w G cX8_byOrder RX8 6 none { frames := 3, cells := 0, slots := 0, locals := 68 }) (hX : WF dd m) (hp : PB m o 8) (h : fX8_byOrder_110 d o v3 v4 v5 = some x) (K : (Sum.elim (fX8_byOrder_48P w l G (QM w G WF none d' m 0 0) m d o) (Sum.elim (fX8_byOrder_28P w l G (QM w G WF none d' m 0 0) m o) (fun q => q = d'))) x) : V w l WF G (QM w G WF none d' m 0 0) d m 0 0 110 [mA o, mU, mU, mI v3, mI v4, mI v5] [] := by
  unfold fX8_byOrder_110 at h
  refine v_iload F dX8_byOrder_110 rfl ?_
  refine v_istore_n F dX8_byOrder_112 rfl (Nat.le_of_ble_eq_true rfl) (L' := [mA o, mI v4, mU, mI v3, mI v4, mI v5]) rfl ?_
  refine v_iload F dX8_byOrder_113 rfl ?_
  refine v_istore_n F dX8_byOrder_115 rfl (Nat.le_of_ble_eq_true rfl) (L' := [mA o, mI v4, mI v5, mI v3, mI v4, mI v5]) rfl ?_
  obtain ⟨x22, ex22, h⟩ := lv_some h
  refine v_iincN F dX8_byOrder_116 (Nat.le_of_ble_eq_true rfl) rfl ex22 (L' := [mA o, mI v4, mI v5, mI x22, mI v4, mI v5]) rfl ?_
  refine v_goto F dX8_byOrder_119 rfl ?_
  cases h
  refine v_fgt (L' := [mA o, mI v4, mI v5, mI x22, mU, mU]) ⟨Or.inl rfl, Or.inl rfl, Or.inl rfl, Or.inl rfl, Or.inr rfl, Or.inr rfl, trivial⟩ ?_
  exact K
theorem fX8_byOrder_87_ok {w : Wd} {l : Launch} {G : Cx} {d m dd : Dt} {o v1 v2 v3 v4 s0 : Int} {d' : Dt} {x : ((Int × Int × Int) ⊕ ((Dt) ⊕ Dt))} (F : Fx w G cX8_byOrder RX8 6 none { frames := 3, cells := 0, slots := 0, locals := 68 }) (hX : WF dd m) (hp : PB m o 8) (h : fX8_byOrder_87 d o v1 v2 v3 v4 s0 = some x) (K : (Sum.elim (fX8_byOrder_48P w l G (QM w G WF none d' m 0 0) m d o) (Sum.elim (fX8_byOrder_28P w l G (QM w G WF none d' m 0 0) m o) (fun q => q = d'))) x) : V w l WF G (QM w G WF none d' m 0 0) d m 0 0 87 [mA o, mI v1, mI v2, mI v3, mI v4, mU] [mI s0] := by
  unfold fX8_byOrder_87 at h
  refine v_istore F dX8_byOrder_87 (Nat.le_of_ble_eq_true rfl) (L' := [mA o, mI v1, mI v2, mI v3, mI v4, mI s0]) rfl ?_
  refine v_aload_n F dX8_byOrder_89 rfl rfl ?_
  refine gf_X8_92 F dX8_byOrder_90 hp (v := (o + 229)) rfl ?_
  refine v_iload F dX8_byOrder_93 rfl ?_
  obtain ⟨hi18, h⟩ := ck_some h
  refine v_zald F dX8_byOrder_95 (ar_X8_37 hX hp) hi18 ?_
  refine v_if_eq F dX8_byOrder_96 rfl (fun hq19 => ?_) (fun hq19 => ?_)
  · rw [if_pos hq19] at h
    obtain ⟨x20, ex20, h⟩ := lv_some h
    refine v_iincN F dX8_byOrder_116 (Nat.le_of_ble_eq_true rfl) rfl ex20 (L' := [mA o, mI v1, mI v2, mI x20, mI v4, mI s0]) rfl ?_
    refine v_goto F dX8_byOrder_119 rfl ?_
    cases h
    refine v_fgt (L' := [mA o, mI v1, mI v2, mI x20, mU, mU]) ⟨Or.inl rfl, Or.inl rfl, Or.inl rfl, Or.inl rfl, Or.inr rfl, Or.inr rfl, trivial⟩ ?_
    exact K
  · rw [if_neg hq19] at h
    refine v_iload_n F dX8_byOrder_99 rfl rfl ?_
    refine v_iconst F dX8_byOrder_100 ⟨by decide, by decide⟩ ?_
    refine v_icmp_eq F dX8_byOrder_101 rfl (fun hq21 => ?_) (fun hq21 => ?_)
    · rw [if_pos hq21] at h
      refine v_fgt (L' := [mA o, mU, mU, mI v3, mI v4, mI s0]) ⟨Or.inl rfl, Or.inr rfl, Or.inr rfl, Or.inl rfl, Or.inl rfl, Or.inl rfl, trivial⟩ ?_
      exact fX8_byOrder_110_ok F hX hp h K
    · rw [if_neg hq21] at h
      refine v_iload F dX8_byOrder_104 rfl ?_
      refine v_iload_n F dX8_byOrder_106 rfl rfl ?_
      refine v_icmp_le F dX8_byOrder_107 rfl (fun hq23 => ?_) (fun hq23 => ?_)
      · rw [if_pos hq23] at h
        obtain ⟨x24, ex24, h⟩ := lv_some h
        refine v_iincN F dX8_byOrder_116 (Nat.le_of_ble_eq_true rfl) rfl ex24 (L' := [mA o, mI v1, mI v2, mI x24, mI v4, mI s0]) rfl ?_
        refine v_goto F dX8_byOrder_119 rfl ?_
        cases h
        refine v_fgt (L' := [mA o, mI v1, mI v2, mI x24, mU, mU]) ⟨Or.inl rfl, Or.inl rfl, Or.inl rfl, Or.inl rfl, Or.inr rfl, Or.inr rfl, trivial⟩ ?_
        exact K
      · rw [if_neg hq23] at h
        refine v_fgt (L' := [mA o, mU, mU, mI v3, mI v4, mI s0]) ⟨Or.inl rfl, Or.inr rfl, Or.inr rfl, Or.inl rfl, Or.inl rfl, Or.inl rfl, trivial⟩ ?_
        exact fX8_byOrder_110_ok F hX hp h K
theorem fX8_byOrder_48f_ok {w : Wd} {l : Launch} {G : Cx} {d m dd : Dt} {o : Int} {d' : Dt} {s : Int × Int × Int} {x : ((Int × Int × Int) ⊕ ((Dt) ⊕ Dt))} (F : Fx w G cX8_byOrder RX8 6 none { frames := 3, cells := 0, slots := 0, locals := 68 }) (hX : WF dd m) (hp : PB m o 8) (h : fX8_byOrder_48f d o s = some x) (K : (Sum.elim (fX8_byOrder_48P w l G (QM w G WF none d' m 0 0) m d o) (Sum.elim (fX8_byOrder_28P w l G (QM w G WF none d' m 0 0) m o) (fun q => q = d'))) x) : V w l WF G (QM w G WF none d' m 0 0) d m 0 0 48 [mA o, mI (s.1), mI (s.2.1), mI (s.2.2), mU, mU] [] := by
  obtain ⟨v1, v2, v3⟩ := s
  unfold fX8_byOrder_48f at h
  dsimp only at h
  refine v_iload_n F dX8_byOrder_48 rfl rfl ?_
  refine v_aload_n F dX8_byOrder_49 rfl rfl ?_
  refine gf_X8_148 F dX8_byOrder_50 hp ?_
  refine v_icmp_ge F dX8_byOrder_53 rfl (fun hq6 => ?_) (fun hq6 => ?_)
  · rw [if_pos hq6] at h
    obtain ⟨z, hu, ez⟩ := up_some h
    clear h
    subst ez
    have h := hu
    clear hu
    refine v_aload_n F dX8_byOrder_122 rfl rfl ?_
    refine gf_X8_92 F dX8_byOrder_123 hp (v := (o + 229)) rfl ?_
    refine v_iload_n F dX8_byOrder_126 rfl rfl ?_
    refine v_iconst F dX8_byOrder_127 ⟨by decide, by decide⟩ ?_
    obtain ⟨hi7, h⟩ := ck_some h
    obtain ⟨d8, ed8, h⟩ := sd_some h
    refine v_zast F dX8_byOrder_128 (ar_X8_37 hX hp) hi7 ?_
    refine v_nD ed8 ?_
    refine v_aload_n F dX8_byOrder_129 rfl rfl ?_
    refine v_iload_n F dX8_byOrder_130 rfl rfl ?_
    obtain ⟨d9, hc10, h⟩ := bd_some h
    refine v_callV0 (c := 8) F dX8_byOrder_131 cv_X8_219 rfl (PB.ob hp hX (Nat.le_of_ble_eq_true rfl)) (Nat.le_of_ble_eq_true rfl) rfl (vm_X8_elect hp hc10) rfl (rOk.of rfl) ?_
    refine v_goto F dX8_byOrder_134 rfl ?_
    cases h
    refine v_fgt (L' := [mA o, mU, mU, mU, mU, mU]) ⟨Or.inl rfl, Or.inr rfl, Or.inr rfl, Or.inr rfl, Or.inl rfl, Or.inl rfl, trivial⟩ ?_
    exact K
  · rw [if_neg hq6] at h
    refine v_aload_n F dX8_byOrder_56 rfl rfl ?_
    obtain ⟨x11, ex11, h⟩ := lv_some h
    obtain ⟨hn13, h⟩ := ck_some h
    refine gf_X8_135 F dX8_byOrder_57 hp ex11 fun hr12 => ?_
    have x11p := hr12.resolve_left hn13
    refine gf_X8_212 F dX8_byOrder_60 x11p (v := (x11 + 6)) rfl ?_
    refine v_iload_n F dX8_byOrder_63 rfl rfl ?_
    obtain ⟨hi14, h⟩ := ck_some h
    refine v_iald F dX8_byOrder_64 (ar_X9_7 hX x11p) hi14 ?_
    obtain ⟨x15, ex15, h⟩ := lv_some h
    refine v_nI ex15 ?_
    refine v_istore F dX8_byOrder_65 (Nat.le_of_ble_eq_true rfl) (L' := [mA o, mI v1, mI v2, mI v3, mI x15, mU]) rfl ?_
    refine v_aload_n F dX8_byOrder_67 rfl rfl ?_
    refine gf_X8_92 F dX8_byOrder_68 hp (v := (o + 229)) rfl ?_
    refine v_iload F dX8_byOrder_71 rfl ?_
    obtain ⟨hi16, h⟩ := ck_some h
    refine v_zald F dX8_byOrder_73 (ar_X8_37 hX hp) hi16 ?_
    refine v_if_eq F dX8_byOrder_74 rfl (fun hq17 => ?_) (fun hq17 => ?_)
    · rw [if_pos hq17] at h
      refine v_iconst F dX8_byOrder_86 ⟨by decide, by decide⟩ ?_
      exact fX8_byOrder_87_ok F hX hp h K
    · rw [if_neg hq17] at h
      refine v_aload_n F dX8_byOrder_77 rfl rfl ?_
      refine v_iload F dX8_byOrder_78 rfl ?_
      obtain ⟨x25, hc26, h⟩ := b1_some h
      refine v_callVv (c := 8) F dX8_byOrder_80 cv_X8_359 rfl (PB.ob hp hX (Nat.le_of_ble_eq_true rfl)) (Nat.le_of_ble_eq_true rfl) rfl (vm_X8_worthOf hp hc26) rfl (rOk.of rfl) ?_
      refine v_goto F dX8_byOrder_83 rfl ?_
      exact fX8_byOrder_87_ok F hX hp h K
theorem fX8_byOrder_48_ok {w : Wd} {l : Launch} {G : Cx} {d m dd : Dt} {o v1 v2 v3 : Int} {d' : Dt} {x : ((Dt) ⊕ Dt)} (F : Fx w G cX8_byOrder RX8 6 none { frames := 3, cells := 0, slots := 0, locals := 68 }) (hX : WF dd m) (hp : PB m o 8) (h : fX8_byOrder_48 d o v1 v2 v3 = some x) (K : (Sum.elim (fX8_byOrder_28P w l G (QM w G WF none d' m 0 0) m o) (fun q => q = d')) x) : V w l WF G (QM w G WF none d' m 0 0) d m 0 0 48 [mA o, mI v1, mI v2, mI v3, mU, mU] [] := by
  unfold fX8_byOrder_48 at h
  exact loop_ok (P := fX8_byOrder_48P w l G (QM w G WF none d' m 0 0) m d o) (fun s x hx h1 h2 => fX8_byOrder_48f_ok F hX hp hx (by
    cases x with
    | inl s' => exact h1 s' rfl
    | inr z => cases h2 z rfl; exact K)) h
theorem fX8_byOrder_28f_ok {w : Wd} {l : Launch} {G : Cx} {m dd : Dt} {o : Int} {d' : Dt} {s : Dt} {x : ((Dt) ⊕ Dt)} (F : Fx w G cX8_byOrder RX8 6 none { frames := 3, cells := 0, slots := 0, locals := 68 }) (hX : WF dd m) (hp : PB m o 8) (h : fX8_byOrder_28f o s = some x) (K : (Sum.elim (fX8_byOrder_28P w l G (QM w G WF none d' m 0 0) m o) (fun q => q = d')) x) : V w l WF G (QM w G WF none d' m 0 0) s m 0 0 28 [mA o, mU, mU, mU, mU, mU] [] := by
  obtain ⟨d, rfl⟩ : ∃ z, z = s := ⟨s, rfl⟩
  unfold fX8_byOrder_28f at h
  dsimp only at h
  refine v_aload_n F dX8_byOrder_28 rfl rfl ?_
  refine gf_X8_167 F dX8_byOrder_29 hp ?_
  refine v_aload_n F dX8_byOrder_32 rfl rfl ?_
  obtain ⟨x2, ex2, h⟩ := lv_some h
  obtain ⟨hn4, h⟩ := ck_some h
  refine gf_X8_131 F dX8_byOrder_33 hp ex2 fun hr3 => ?_
  have x2p := hr3.resolve_left hn4
  refine gf_X8_185 F dX8_byOrder_36 x2p ?_
  refine v_icmp_ge F dX8_byOrder_39 rfl (fun hq5 => ?_) (fun hq5 => ?_)
  · rw [if_pos hq5] at h
    obtain ⟨z, hu, ez⟩ := up_some h
    clear h
    subst ez
    have h := hu
    clear hu
    cases h
    cases (show _ = d' from K)
    exact v_vret F dX8_byOrder_137
  · rw [if_neg hq5] at h
    refine v_iconst F dX8_byOrder_42 ⟨by decide, by decide⟩ ?_
    refine v_istore_n F dX8_byOrder_43 rfl (Nat.le_of_ble_eq_true rfl) (L' := [mA o, mI (-1), mU, mU, mU, mU]) rfl ?_
    refine v_iconst F dX8_byOrder_44 ⟨by decide, by decide⟩ ?_
    refine v_istore_n F dX8_byOrder_45 rfl (Nat.le_of_ble_eq_true rfl) (L' := [mA o, mI (-1), mI 0, mU, mU, mU]) rfl ?_
    refine v_iconst F dX8_byOrder_46 ⟨by decide, by decide⟩ ?_
    refine v_istore_n F dX8_byOrder_47 rfl (Nat.le_of_ble_eq_true rfl) (L' := [mA o, mI (-1), mI 0, mI 0, mU, mU]) rfl ?_
    exact fX8_byOrder_48_ok F hX hp h K
theorem fX8_byOrder_28_ok {w : Wd} {l : Launch} {G : Cx} {d m dd : Dt} {o : Int} {d' : Dt} {x : Dt} (F : Fx w G cX8_byOrder RX8 6 none { frames := 3, cells := 0, slots := 0, locals := 68 }) (hX : WF dd m) (hp : PB m o 8) (h : fX8_byOrder_28 d o = some x) (K : (fun q => q = d') x) : V w l WF G (QM w G WF none d' m 0 0) d m 0 0 28 [mA o, mU, mU, mU, mU, mU] [] := by
  unfold fX8_byOrder_28 at h
  exact loop_ok (P := fX8_byOrder_28P w l G (QM w G WF none d' m 0 0) m o) (fun s x hx h1 h2 => fX8_byOrder_28f_ok F hX hp hx (by
    cases x with
    | inl s' => exact h1 s' rfl
    | inr z => cases h2 z rfl; exact K)) h
theorem fX8_byOrder_2f_ok {w : Wd} {l : Launch} {G : Cx} {m dd : Dt} {o : Int} {d' : Dt} {s : Dt × Int} {x : ((Dt × Int) ⊕ Dt)} (F : Fx w G cX8_byOrder RX8 6 none { frames := 3, cells := 0, slots := 0, locals := 68 }) (hX : WF dd m) (hp : PB m o 8) (h : fX8_byOrder_2f o s = some x) (K : (Sum.elim (fX8_byOrder_2P w l G (QM w G WF none d' m 0 0) m o) (fun q => q = d')) x) : V w l WF G (QM w G WF none d' m 0 0) s.1 m 0 0 2 [mA o, mI (s.2), mU, mU, mU, mU] [] := by
  obtain ⟨d, v1⟩ := s
  unfold fX8_byOrder_2f at h
  dsimp only at h
  refine v_iload_n F dX8_byOrder_2 rfl rfl ?_
  refine v_aload_n F dX8_byOrder_3 rfl rfl ?_
  refine gf_X8_148 F dX8_byOrder_4 hp ?_
  refine v_icmp_ge F dX8_byOrder_7 rfl (fun hq1 => ?_) (fun hq1 => ?_)
  · rw [if_pos hq1] at h
    obtain ⟨z, hu, ez⟩ := up_some h
    clear h
    subst ez
    have h := hu
    clear hu
    refine v_fgt (L' := [mA o, mU, mU, mU, mU, mU]) ⟨Or.inl rfl, Or.inr rfl, Or.inl rfl, Or.inl rfl, Or.inl rfl, Or.inl rfl, trivial⟩ ?_
    exact fX8_byOrder_28_ok F hX hp h K
  · rw [if_neg hq1] at h
    refine v_aload_n F dX8_byOrder_10 rfl rfl ?_
    refine gf_X8_92 F dX8_byOrder_11 hp (v := (o + 229)) rfl ?_
    refine v_iload_n F dX8_byOrder_14 rfl rfl ?_
    refine v_aload_n F dX8_byOrder_15 rfl rfl ?_
    refine gf_X8_9 F dX8_byOrder_16 hp (v := (o + 1)) rfl ?_
    refine v_iload_n F dX8_byOrder_19 rfl rfl ?_
    obtain ⟨hi27, h⟩ := ck_some h
    refine v_zald F dX8_byOrder_20 (ar_X8_4 hX hp) hi27 ?_
    obtain ⟨d28, ed28, h⟩ := sd_some h
    refine v_zast F dX8_byOrder_21 (ar_X8_37 hX hp) hi27 ?_
    refine v_nD ed28 ?_
    obtain ⟨x29, ex29, h⟩ := lv_some h
    refine v_iincN F dX8_byOrder_22 (Nat.le_of_ble_eq_true rfl) rfl ex29 (L' := [mA o, mI x29, mU, mU, mU, mU]) rfl ?_
    refine v_goto F dX8_byOrder_25 rfl ?_
    cases h
    exact K
theorem fX8_byOrder_2_ok {w : Wd} {l : Launch} {G : Cx} {d m dd : Dt} {o v1 : Int} {d' : Dt} {x : Dt} (F : Fx w G cX8_byOrder RX8 6 none { frames := 3, cells := 0, slots := 0, locals := 68 }) (hX : WF dd m) (hp : PB m o 8) (h : fX8_byOrder_2 d o v1 = some x) (K : (fun q => q = d') x) : V w l WF G (QM w G WF none d' m 0 0) d m 0 0 2 [mA o, mI v1, mU, mU, mU, mU] [] := by
  unfold fX8_byOrder_2 at h
  exact loop_ok (P := fX8_byOrder_2P w l G (QM w G WF none d' m 0 0) m o) (fun s x hx h1 h2 => fX8_byOrder_2f_ok F hX hp hx (by
    cases x with
    | inl s' => exact h1 s' rfl
    | inr z => cases h2 z rfl; exact K)) h
theorem vm_X8_byOrder {w : Wd} {l : Launch} {d m : Dt} {o : Int} {d' : Dt} (hp : PB m o 8) (h : fX8_byOrder d o = some d') : VM w l WF yX8_byOrder cX8_byOrder 6 none 3 68 0 0 d m [mA o] none d' m := by
  obtain ⟨x, h, K⟩ : ∃ x, fX8_byOrder d o = some x ∧ x = d' := ⟨_, h, rfl⟩
  refine VM.of (L := [mA o, mU, mU, mU, mU, mU]) (by decide +kernel) rfl (Nat.le_of_ble_eq_true rfl) fun G F _ => v_fact fun _ hX _ _ => ?_
  unfold fX8_byOrder at h
  refine v_iconst F dX8_byOrder_0 ⟨by decide, by decide⟩ ?_
  refine v_istore_n F dX8_byOrder_1 rfl (Nat.le_of_ble_eq_true rfl) (L' := [mA o, mI 0, mU, mU, mU, mU]) rfl ?_
  exact fX8_byOrder_2_ok F hX hp h K
theorem fX8_byPairs_39_ok {w : Wd} {l : Launch} {G : Cx} {d m dd : Dt} {o : Int} {d' : Dt} {x : Dt} (F : Fx w G cX8_byPairs RX8 1 none { frames := 4, cells := 0, slots := 0, locals := 93 }) (hX : WF dd m) (hp : PB m o 8) (h : fX8_byPairs_39 d o = some x) (K : (fun q => q = d') x) : V w l WF G (QM w G WF none d' m 0 0) d m 0 0 39 [mA o] [] := by
  unfold fX8_byPairs_39 at h
  refine v_aload_n F dX8_byPairs_39 rfl rfl ?_
  obtain ⟨d11, hc12, h⟩ := bd_some h
  refine v_callV0 (c := 8) F dX8_byPairs_40 cv_X8_410 rfl (PB.ob hp hX (Nat.le_of_ble_eq_true rfl)) (Nat.le_of_ble_eq_true rfl) rfl (vm_X8_byOrder hp hc12) rfl (rOk.of rfl) ?_
  cases h
  cases (show _ = d' from K)
  exact v_vret F dX8_byPairs_43
theorem vm_X8_byPairs {w : Wd} {l : Launch} {d m : Dt} {o : Int} {d' : Dt} (hp : PB m o 8) (h : fX8_byPairs d o = some d') : VM w l WF yX8_byPairs cX8_byPairs 1 none 4 93 0 0 d m [mA o] none d' m := by
  obtain ⟨x, h, K⟩ : ∃ x, fX8_byPairs d o = some x ∧ x = d' := ⟨_, h, rfl⟩
  refine VM.of (L := [mA o]) (by decide +kernel) rfl (Nat.le_of_ble_eq_true rfl) fun G F _ => v_fact fun _ hX _ _ => ?_
  unfold fX8_byPairs at h
  refine v_aload_n F dX8_byPairs_0 rfl rfl ?_
  obtain ⟨d1, hc2, h⟩ := bd_some h
  refine v_callV0 (c := 8) F dX8_byPairs_1 cv_X8_401 rfl (PB.ob hp hX (Nat.le_of_ble_eq_true rfl)) (Nat.le_of_ble_eq_true rfl) rfl (vm_X8_matrix hp hc2) rfl (rOk.of rfl) ?_
  refine v_aload_n F dX8_byPairs_4 rfl rfl ?_
  obtain ⟨x3, ex3, h⟩ := lv_some h
  obtain ⟨hn5, h⟩ := ck_some h
  refine gf_X8_131 F dX8_byPairs_5 hp ex3 fun hr4 => ?_
  have x3p := hr4.resolve_left hn5
  refine gf_X8_180 F dX8_byPairs_8 x3p ?_
  refine v_bipush F dX8_byPairs_11 rfl ⟨by decide, by decide⟩ ?_
  refine v_icmp_ne F dX8_byPairs_13 rfl (fun hq6 => ?_) (fun hq6 => ?_)
  · rw [if_neg hq6] at h
    refine v_aload_n F dX8_byPairs_23 rfl rfl ?_
    obtain ⟨x7, ex7, h⟩ := lv_some h
    obtain ⟨hn9, h⟩ := ck_some h
    refine gf_X8_131 F dX8_byPairs_24 hp ex7 fun hr8 => ?_
    have x7p := hr8.resolve_left hn9
    refine gf_X8_180 F dX8_byPairs_27 x7p ?_
    refine v_bipush F dX8_byPairs_30 rfl ⟨by decide, by decide⟩ ?_
    refine v_icmp_ne F dX8_byPairs_32 rfl (fun hq10 => ?_) (fun hq10 => ?_)
    · rw [if_neg hq10] at h
      exact fX8_byPairs_39_ok F hX hp h K
    · rw [if_pos hq10] at h
      refine v_aload_n F dX8_byPairs_35 rfl rfl ?_
      obtain ⟨d13, hc14, h⟩ := bd_some h
      refine v_callV0 (c := 8) F dX8_byPairs_36 cv_X8_407 rfl (PB.ob hp hX (Nat.le_of_ble_eq_true rfl)) (Nat.le_of_ble_eq_true rfl) rfl (vm_X8_widen hp hc14) rfl (rOk.of rfl) ?_
      exact fX8_byPairs_39_ok F hX hp h K
  · rw [if_pos hq6] at h
    refine v_aload_n F dX8_byPairs_16 rfl rfl ?_
    obtain ⟨d15, hc16, h⟩ := bd_some h
    refine v_callV0 (c := 8) F dX8_byPairs_17 cv_X8_404 rfl (PB.ob hp hX (Nat.le_of_ble_eq_true rfl)) (Nat.le_of_ble_eq_true rfl) rfl (vm_X8_keepPairs hp hc16) rfl (rOk.of rfl) ?_
    refine v_goto F dX8_byPairs_20 rfl ?_
    exact fX8_byPairs_39_ok F hX hp h K
theorem fX8_run_140_ok {w : Wd} {l : Launch} {G : Cx} {d m dd : Dt} {o : Int} {d' : Dt} {x : Dt} (F : Fx w G cX8_run RX8 2 none { frames := 5, cells := 0, slots := 0, locals := 121 }) (hX : WF dd m) (hp : PB m o 8) (h : fX8_run_140 d o = some x) (K : (fun q => q = d') x) : V w l WF G (QM w G WF none d' m 0 0) d m 0 0 140 [mA o, mU] [] := by
  unfold fX8_run_140 at h
  refine v_aload_n F dX8_run_140 rfl rfl ?_
  obtain ⟨d14, hc15, h⟩ := bd_some h
  refine v_callV0 (c := 8) F dX8_run_141 cv_X8_501 rfl (PB.ob hp hX (Nat.le_of_ble_eq_true rfl)) (Nat.le_of_ble_eq_true rfl) rfl (vm_X8_bySums hp hc15) rfl (rOk.of rfl) ?_
  refine v_goto F dX8_run_144 rfl ?_
  cases h
  cases (show _ = d' from K)
  exact v_vret F dX8_run_179
theorem fX8_run_175_ok {w : Wd} {l : Launch} {G : Cx} {d m dd : Dt} {o : Int} {d' : Dt} {x : Dt} (F : Fx w G cX8_run RX8 2 none { frames := 5, cells := 0, slots := 0, locals := 121 }) (hX : WF dd m) (hp : PB m o 8) (h : fX8_run_175 d o = some x) (K : (fun q => q = d') x) : V w l WF G (QM w G WF none d' m 0 0) d m 0 0 175 [mA o, mU] [] := by
  unfold fX8_run_175 at h
  refine v_aload_n F dX8_run_175 rfl rfl ?_
  obtain ⟨d27, hc28, h⟩ := bd_some h
  refine v_callV0 (c := 8) F dX8_run_176 cv_X8_516 rfl (PB.ob hp hX (Nat.le_of_ble_eq_true rfl)) (Nat.le_of_ble_eq_true rfl) rfl (vm_X8_byPairs hp hc28) rfl (rOk.of rfl) ?_
  cases h
  cases (show _ = d' from K)
  exact v_vret F dX8_run_179
theorem fX8_run_168_ok {w : Wd} {l : Launch} {G : Cx} {d m dd : Dt} {o : Int} {d' : Dt} {x : Dt} (F : Fx w G cX8_run RX8 2 none { frames := 5, cells := 0, slots := 0, locals := 121 }) (hX : WF dd m) (hp : PB m o 8) (h : fX8_run_168 d o = some x) (K : (fun q => q = d') x) : V w l WF G (QM w G WF none d' m 0 0) d m 0 0 168 [mA o, mU] [] := by
  unfold fX8_run_168 at h
  refine v_aload_n F dX8_run_168 rfl rfl ?_
  obtain ⟨d36, hc37, h⟩ := bd_some h
  refine v_callV0 (c := 8) F dX8_run_169 cv_X8_513 rfl (PB.ob hp hX (Nat.le_of_ble_eq_true rfl)) (Nat.le_of_ble_eq_true rfl) rfl (vm_X8_byTransfers hp hc37) rfl (rOk.of rfl) ?_
  refine v_goto F dX8_run_172 rfl ?_
  cases h
  cases (show _ = d' from K)
  exact v_vret F dX8_run_179
def fX8_run_33P (w : Wd) (l : Launch) (G : Cx) (Q : State → Prop) (m : Dt) (o : Int) (s : Dt × Int) : Prop := V w l WF G Q s.1 m 0 0 33 [mA o, mI (s.2)] []
theorem fX8_run_33f_ok {w : Wd} {l : Launch} {G : Cx} {m dd : Dt} {o : Int} {d' : Dt} {s : Dt × Int} {x : ((Dt × Int) ⊕ Dt)} (F : Fx w G cX8_run RX8 2 none { frames := 5, cells := 0, slots := 0, locals := 121 }) (hX : WF dd m) (hp : PB m o 8) (h : fX8_run_33f o s = some x) (K : (Sum.elim (fX8_run_33P w l G (QM w G WF none d' m 0 0) m o) (fun q => q = d')) x) : V w l WF G (QM w G WF none d' m 0 0) s.1 m 0 0 33 [mA o, mI (s.2)] [] := by
  obtain ⟨d, v1⟩ := s
  unfold fX8_run_33f at h
  dsimp only at h
  refine v_iload_n F dX8_run_33 rfl rfl ?_
  refine v_aload_n F dX8_run_34 rfl rfl ?_
  refine gf_X8_148 F dX8_run_35 hp ?_
  refine v_icmp_ge F dX8_run_38 rfl (fun hq39 => ?_) (fun hq39 => ?_)
  · rw [if_pos hq39] at h
    obtain ⟨z, hu, ez⟩ := up_some h
    clear h
    subst ez
    have h := hu
    clear hu
    cases h
    cases (show _ = d' from K)
    exact v_vret F dX8_run_61
  · rw [if_neg hq39] at h
    refine v_aload_n F dX8_run_41 rfl rfl ?_
    refine gf_X8_9 F dX8_run_42 hp (v := (o + 1)) rfl ?_
    refine v_iload_n F dX8_run_45 rfl rfl ?_
    obtain ⟨hi40, h⟩ := ck_some h
    refine v_zald F dX8_run_46 (ar_X8_4 hX hp) hi40 ?_
    refine v_if_eq F dX8_run_47 rfl (fun hq41 => ?_) (fun hq41 => ?_)
    · rw [if_pos hq41] at h
      obtain ⟨x42, ex42, h⟩ := lv_some h
      refine v_iincN F dX8_run_55 (Nat.le_of_ble_eq_true rfl) rfl ex42 (L' := [mA o, mI x42]) rfl ?_
      refine v_goto F dX8_run_58 rfl ?_
      cases h
      exact K
    · rw [if_neg hq41] at h
      refine v_aload_n F dX8_run_50 rfl rfl ?_
      refine v_iload_n F dX8_run_51 rfl rfl ?_
      obtain ⟨d43, hc44, h⟩ := bd_some h
      refine v_callV0 (c := 8) F dX8_run_52 cv_X8_219 rfl (PB.ob hp hX (Nat.le_of_ble_eq_true rfl)) (Nat.le_of_ble_eq_true rfl) rfl (vm_X8_elect hp hc44) rfl (rOk.of rfl) ?_
      obtain ⟨x45, ex45, h⟩ := lv_some h
      refine v_iincN F dX8_run_55 (Nat.le_of_ble_eq_true rfl) rfl ex45 (L' := [mA o, mI x45]) rfl ?_
      refine v_goto F dX8_run_58 rfl ?_
      cases h
      exact K
theorem fX8_run_33_ok {w : Wd} {l : Launch} {G : Cx} {d m dd : Dt} {o v1 : Int} {d' : Dt} {x : Dt} (F : Fx w G cX8_run RX8 2 none { frames := 5, cells := 0, slots := 0, locals := 121 }) (hX : WF dd m) (hp : PB m o 8) (h : fX8_run_33 d o v1 = some x) (K : (fun q => q = d') x) : V w l WF G (QM w G WF none d' m 0 0) d m 0 0 33 [mA o, mI v1] [] := by
  unfold fX8_run_33 at h
  exact loop_ok (P := fX8_run_33P w l G (QM w G WF none d' m 0 0) m o) (fun s x hx h1 h2 => fX8_run_33f_ok F hX hp hx (by
    cases x with
    | inl s' => exact h1 s' rfl
    | inr z => cases h2 z rfl; exact K)) h
theorem vm_X8_run {w : Wd} {l : Launch} {d m : Dt} {o : Int} {d' : Dt} (hp : PB m o 8) (h : fX8_run d o = some d') : VM w l WF yX8_run cX8_run 2 none 5 121 0 0 d m [mA o] none d' m := by
  obtain ⟨x, h, K⟩ : ∃ x, fX8_run d o = some x ∧ x = d' := ⟨_, h, rfl⟩
  refine VM.of (L := [mA o, mU]) (by decide +kernel) rfl (Nat.le_of_ble_eq_true rfl) fun G F _ => v_fact fun _ hX _ _ => ?_
  unfold fX8_run at h
  refine v_aload_n F dX8_run_0 rfl rfl ?_
  obtain ⟨x1, ex1, h⟩ := lv_some h
  obtain ⟨hn3, h⟩ := ck_some h
  refine gf_X8_131 F dX8_run_1 hp ex1 fun hr2 => ?_
  have x1p := hr2.resolve_left hn3
  refine gf_X8_180 F dX8_run_4 x1p ?_
  refine v_bipush F dX8_run_7 rfl ⟨by decide, by decide⟩ ?_
  refine v_icmp_ne F dX8_run_9 rfl (fun hq4 => ?_) (fun hq4 => ?_)
  · rw [if_neg hq4] at h
    refine v_aload_n F dX8_run_17 rfl rfl ?_
    refine gf_X8_149 F dX8_run_18 hp ?_
    refine v_aload_n F dX8_run_21 rfl rfl ?_
    obtain ⟨x5, ex5, h⟩ := lv_some h
    obtain ⟨hn7, h⟩ := ck_some h
    refine gf_X8_131 F dX8_run_22 hp ex5 fun hr6 => ?_
    have x5p := hr6.resolve_left hn7
    refine gf_X8_185 F dX8_run_25 x5p ?_
    refine v_icmp_gt F dX8_run_28 rfl (fun hq8 => ?_) (fun hq8 => ?_)
    · rw [if_pos hq8] at h
      refine v_aload_n F dX8_run_62 rfl rfl ?_
      obtain ⟨x9, ex9, h⟩ := lv_some h
      obtain ⟨hn11, h⟩ := ck_some h
      refine gf_X8_131 F dX8_run_63 hp ex9 fun hr10 => ?_
      have x9p := hr10.resolve_left hn11
      refine gf_X8_180 F dX8_run_66 x9p ?_
      obtain ⟨x12, ex12, h⟩ := lv_some h
      refine v_nI ex12 ?_
      by_cases hq13 : x12 = 0
      · rw [if_pos hq13] at h
        refine v_tableIn F dX8_run_69 hq13 (by decide) (by decide) rfl rfl ?_
        exact fX8_run_140_ok F hX hp h K
      · rw [if_neg hq13] at h
        by_cases hq16 : x12 = 1
        · rw [if_pos hq16] at h
          refine v_tableIn F dX8_run_69 hq16 (by decide) (by decide) rfl rfl ?_
          exact fX8_run_140_ok F hX hp h K
        · rw [if_neg hq16] at h
          by_cases hq17 : x12 = 2
          · rw [if_pos hq17] at h
            refine v_tableIn F dX8_run_69 hq17 (by decide) (by decide) rfl rfl ?_
            exact fX8_run_140_ok F hX hp h K
          · rw [if_neg hq17] at h
            by_cases hq18 : x12 = 3
            · rw [if_pos hq18] at h
              refine v_tableIn F dX8_run_69 hq18 (by decide) (by decide) rfl rfl ?_
              exact fX8_run_140_ok F hX hp h K
            · rw [if_neg hq18] at h
              by_cases hq19 : x12 = 4
              · rw [if_pos hq19] at h
                refine v_tableIn F dX8_run_69 hq19 (by decide) (by decide) rfl rfl ?_
                refine v_aload_n F dX8_run_147 rfl rfl ?_
                obtain ⟨d20, hc21, h⟩ := bd_some h
                refine v_callV0 (c := 8) F dX8_run_148 cv_X8_504 rfl (PB.ob hp hX (Nat.le_of_ble_eq_true rfl)) (Nat.le_of_ble_eq_true rfl) rfl (vm_X8_byMedians hp hc21) rfl (rOk.of rfl) ?_
                refine v_goto F dX8_run_151 rfl ?_
                cases h
                cases (show _ = d' from K)
                exact v_vret F dX8_run_179
              · rw [if_neg hq19] at h
                by_cases hq22 : x12 = 5
                · rw [if_pos hq22] at h
                  refine v_tableIn F dX8_run_69 hq22 (by decide) (by decide) rfl rfl ?_
                  exact fX8_run_140_ok F hX hp h K
                · rw [if_neg hq22] at h
                  by_cases hq23 : x12 = 6
                  · rw [if_pos hq23] at h
                    refine v_tableIn F dX8_run_69 hq23 (by decide) (by decide) rfl rfl ?_
                    refine v_aload_n F dX8_run_154 rfl rfl ?_
                    obtain ⟨d24, hc25, h⟩ := bd_some h
                    refine v_callV0 (c := 8) F dX8_run_155 cv_X8_507 rfl (PB.ob hp hX (Nat.le_of_ble_eq_true rfl)) (Nat.le_of_ble_eq_true rfl) rfl (vm_X8_byLeaving hp hc25) rfl (rOk.of rfl) ?_
                    refine v_goto F dX8_run_158 rfl ?_
                    cases h
                    cases (show _ = d' from K)
                    exact v_vret F dX8_run_179
                  · rw [if_neg hq23] at h
                    by_cases hq26 : x12 = 7
                    · rw [if_pos hq26] at h
                      refine v_tableIn F dX8_run_69 hq26 (by decide) (by decide) rfl rfl ?_
                      exact fX8_run_175_ok F hX hp h K
                    · rw [if_neg hq26] at h
                      by_cases hq29 : x12 = 8
                      · rw [if_pos hq29] at h
                        refine v_tableIn F dX8_run_69 hq29 (by decide) (by decide) rfl rfl ?_
                        exact fX8_run_175_ok F hX hp h K
                      · rw [if_neg hq29] at h
                        by_cases hq30 : x12 = 9
                        · rw [if_pos hq30] at h
                          refine v_tableIn F dX8_run_69 hq30 (by decide) (by decide) rfl rfl ?_
                          exact fX8_run_175_ok F hX hp h K
                        · rw [if_neg hq30] at h
                          by_cases hq31 : x12 = 10
                          · rw [if_pos hq31] at h
                            refine v_tableIn F dX8_run_69 hq31 (by decide) (by decide) rfl rfl ?_
                            exact fX8_run_175_ok F hX hp h K
                          · rw [if_neg hq31] at h
                            by_cases hq32 : x12 = 11
                            · rw [if_pos hq32] at h
                              refine v_tableIn F dX8_run_69 hq32 (by decide) (by decide) rfl rfl ?_
                              refine v_aload_n F dX8_run_161 rfl rfl ?_
                              obtain ⟨d33, hc34, h⟩ := bd_some h
                              refine v_callV0 (c := 8) F dX8_run_162 cv_X8_510 rfl (PB.ob hp hX (Nat.le_of_ble_eq_true rfl)) (Nat.le_of_ble_eq_true rfl) rfl (vm_X8_byKeeping hp hc34) rfl (rOk.of rfl) ?_
                              refine v_goto F dX8_run_165 rfl ?_
                              cases h
                              cases (show _ = d' from K)
                              exact v_vret F dX8_run_179
                            · rw [if_neg hq32] at h
                              by_cases hq35 : x12 = 12
                              · rw [if_pos hq35] at h
                                refine v_tableIn F dX8_run_69 hq35 (by decide) (by decide) rfl rfl ?_
                                exact fX8_run_168_ok F hX hp h K
                              · rw [if_neg hq35] at h
                                by_cases hq38 : x12 = 13
                                · rw [if_pos hq38] at h
                                  refine v_tableIn F dX8_run_69 hq38 (by decide) (by decide) rfl rfl ?_
                                  exact fX8_run_168_ok F hX hp h K
                                · rw [if_neg hq38] at h
                                  refine v_tableOut F dX8_run_69 (by omega) rfl ?_
                                  exact fX8_run_175_ok F hX hp h K
    · rw [if_neg hq8] at h
      refine v_iconst F dX8_run_31 ⟨by decide, by decide⟩ ?_
      refine v_istore_n F dX8_run_32 rfl (Nat.le_of_ble_eq_true rfl) (L' := [mA o, mI 0]) rfl ?_
      exact fX8_run_33_ok F hX hp h K
  · rw [if_pos hq4] at h
    refine v_aload_n F dX8_run_12 rfl rfl ?_
    obtain ⟨d46, hc47, h⟩ := bd_some h
    refine v_callV0 (c := 8) F dX8_run_13 cv_X8_498 rfl (PB.ob hp hX (Nat.le_of_ble_eq_true rfl)) (Nat.le_of_ble_eq_true rfl) rfl (vm_X8_byLists hp hc47) rfl (rOk.of rfl) ?_
    cases h
    cases (show _ = d' from K)
    exact v_vret F dX8_run_16
def fX0_countOne_23P (w : Wd) (l : Launch) (G : Cx) (Q : State → Prop) (m : Dt) (a1 a2 a3 : Int) (s : Dt × Int) : Prop := V w l WF G Q s.1 m 0 0 23 [mA 1, mA a1, mI a2, mI a3, mI (s.2), mU, mU] []
def fX0_countOne_42P (w : Wd) (l : Launch) (G : Cx) (Q : State → Prop) (m : Dt) (a1 a2 a3 v4 v5 : Int) (s : Dt × Int) : Prop := V w l WF G Q s.1 m 0 0 42 [mA 1, mA a1, mI a2, mI a3, mI v4, mA v5, mI (s.2)] []
theorem fX0_countOne_100_ok {w : Wd} {l : Launch} {G : Cx} {d m dd : Dt} {a1 a2 a3 v4 v5 v6 s0 s1 : Int} {d' : Dt} {x : ((Dt × Int) ⊕ ((Dt × Int) ⊕ Dt))} (F : Fx w G cX0_countOne RX0 7 none { frames := 6, cells := 0, slots := 0, locals := 142 }) (hX : WF dd m) (hp : PB m 1 0) (hp1 : PB m a1 8) (hv5 : PB m v5 10) (hs0 : PB m s0 8) (hs1 : AR m s1 102 54) (h : fX0_countOne_100 d a1 a2 a3 v4 v5 v6 s0 s1 = some x) (K : (Sum.elim (fX0_countOne_42P w l G (QM w G WF none d' m 0 0) m a1 a2 a3 v4 v5) (Sum.elim (fX0_countOne_23P w l G (QM w G WF none d' m 0 0) m a1 a2 a3) (fun q => q = d'))) x) : V w l WF G (QM w G WF none d' m 0 0) d m 0 0 100 [mA 1, mA a1, mI a2, mI a3, mI v4, mA v5, mI v6] [mA s1, mA s0] := by
  unfold fX0_countOne_100 at h
  refine v_aload_n F dX0_countOne_100 rfl rfl ?_
  refine v_iload_n F dX0_countOne_101 rfl rfl ?_
  refine v_aload F dX0_countOne_102 rfl ?_
  refine gf_X0_537 F dX0_countOne_104 hv5 (v := (v5 + 1)) rfl ?_
  refine v_iload F dX0_countOne_107 rfl ?_
  obtain ⟨hi20, h⟩ := ck_some h
  refine v_iald F dX0_countOne_109 (ar_X10_0 hX hv5) hi20 ?_
  obtain ⟨x21, hc22, h⟩ := b1_some h
  refine v_callVv (c := 0) F dX0_countOne_110 cv_X0_552 rfl (PB.ob hp hX (Nat.le_of_ble_eq_true rfl)) (Nat.le_of_ble_eq_true rfl) rfl (vm_X0_fieldOf hp hc22) rfl (rOk.of rfl) ?_
  obtain ⟨d23, hc24, h⟩ := bd_some h
  refine v_callV0 (c := 8) F dX0_countOne_113 cv_X0_555 rfl (PB.ob hs0 hX (Nat.le_of_ble_eq_true rfl)) (Nat.le_of_ble_eq_true rfl) rfl (vm_X8_add hs0 hs1 hc24) rfl (rOk.of rfl) ?_
  obtain ⟨x25, ex25, h⟩ := lv_some h
  refine v_iincN F dX0_countOne_116 (Nat.le_of_ble_eq_true rfl) rfl ex25 (L' := [mA 1, mA a1, mI a2, mI a3, mI v4, mA v5, mI x25]) rfl ?_
  refine v_goto F dX0_countOne_119 rfl ?_
  cases h
  exact K
theorem fX0_countOne_42f_ok {w : Wd} {l : Launch} {G : Cx} {m dd : Dt} {a1 a2 a3 v4 v5 : Int} {d' : Dt} {s : Dt × Int} {x : ((Dt × Int) ⊕ ((Dt × Int) ⊕ Dt))} (F : Fx w G cX0_countOne RX0 7 none { frames := 6, cells := 0, slots := 0, locals := 142 }) (hX : WF dd m) (hp : PB m 1 0) (hp1 : PB m a1 8) (hv5 : PB m v5 10) (h : fX0_countOne_42f a1 a2 a3 v4 v5 s = some x) (K : (Sum.elim (fX0_countOne_42P w l G (QM w G WF none d' m 0 0) m a1 a2 a3 v4 v5) (Sum.elim (fX0_countOne_23P w l G (QM w G WF none d' m 0 0) m a1 a2 a3) (fun q => q = d'))) x) : V w l WF G (QM w G WF none d' m 0 0) s.1 m 0 0 42 [mA 1, mA a1, mI a2, mI a3, mI v4, mA v5, mI (s.2)] [] := by
  obtain ⟨d, v6⟩ := s
  unfold fX0_countOne_42f at h
  dsimp only at h
  refine v_iload F dX0_countOne_42 rfl ?_
  refine v_aload F dX0_countOne_44 rfl ?_
  refine gf_X0_532 F dX0_countOne_46 hv5 ?_
  refine v_icmp_ge F dX0_countOne_49 rfl (fun hq12 => ?_) (fun hq12 => ?_)
  · rw [if_pos hq12] at h
    obtain ⟨z, hu, ez⟩ := up_some h
    clear h
    subst ez
    have h := hu
    clear hu
    obtain ⟨x13, ex13, h⟩ := lv_some h
    refine v_iincN F dX0_countOne_122 (Nat.le_of_ble_eq_true rfl) rfl ex13 (L' := [mA 1, mA a1, mI a2, mI a3, mI x13, mA v5, mI v6]) rfl ?_
    refine v_goto F dX0_countOne_125 rfl ?_
    cases h
    refine v_fgt (L' := [mA 1, mA a1, mI a2, mI a3, mI x13, mU, mU]) ⟨Or.inl rfl, Or.inl rfl, Or.inl rfl, Or.inl rfl, Or.inl rfl, Or.inr rfl, Or.inr rfl, trivial⟩ ?_
    exact K
  · rw [if_neg hq12] at h
    refine v_aload F dX0_countOne_52 rfl ?_
    refine gf_X0_535 F dX0_countOne_54 hv5 ?_
    refine v_if_ne F dX0_countOne_57 rfl (fun hq14 => ?_) (fun hq14 => ?_)
    · rw [if_neg hq14] at h
      obtain ⟨z, hu, ez⟩ := up_some h
      clear h
      subst ez
      have h := hu
      clear hu
      obtain ⟨x15, ex15, h⟩ := lv_some h
      refine v_iincN F dX0_countOne_122 (Nat.le_of_ble_eq_true rfl) rfl ex15 (L' := [mA 1, mA a1, mI a2, mI a3, mI x15, mA v5, mI v6]) rfl ?_
      refine v_goto F dX0_countOne_125 rfl ?_
      cases h
      refine v_fgt (L' := [mA 1, mA a1, mI a2, mI a3, mI x15, mU, mU]) ⟨Or.inl rfl, Or.inl rfl, Or.inl rfl, Or.inl rfl, Or.inl rfl, Or.inr rfl, Or.inr rfl, trivial⟩ ?_
      exact K
    · rw [if_pos hq14] at h
      refine v_aload F dX0_countOne_60 rfl ?_
      refine gf_X0_537 F dX0_countOne_62 hv5 (v := (v5 + 1)) rfl ?_
      refine v_iload F dX0_countOne_65 rfl ?_
      obtain ⟨hi16, h⟩ := ck_some h
      refine v_iald F dX0_countOne_67 (ar_X10_0 hX hv5) hi16 ?_
      refine v_iload_n F dX0_countOne_68 rfl rfl ?_
      refine v_ishr F dX0_countOne_69 ?_
      refine v_iconst F dX0_countOne_70 ⟨by decide, by decide⟩ ?_
      refine v_iand F dX0_countOne_71 ?_
      refine v_iconst F dX0_countOne_72 ⟨by decide, by decide⟩ ?_
      refine v_icmp_ne F dX0_countOne_73 rfl (fun hq17 => ?_) (fun hq17 => ?_)
      · rw [if_neg hq17] at h
        obtain ⟨x18, ex18, h⟩ := lv_some h
        refine v_iincN F dX0_countOne_116 (Nat.le_of_ble_eq_true rfl) rfl ex18 (L' := [mA 1, mA a1, mI a2, mI a3, mI v4, mA v5, mI x18]) rfl ?_
        refine v_goto F dX0_countOne_119 rfl ?_
        cases h
        exact K
      · rw [if_pos hq17] at h
        refine v_aload_n F dX0_countOne_76 rfl rfl ?_
        refine v_iload_n F dX0_countOne_77 rfl rfl ?_
        refine v_if_eq F dX0_countOne_78 rfl (fun hq19 => ?_) (fun hq19 => ?_)
        · rw [if_pos hq19] at h
          refine v_aload F dX0_countOne_92 rfl ?_
          refine gf_X0_546 F dX0_countOne_94 hv5 (v := (v5 + 63)) rfl ?_
          refine v_iload F dX0_countOne_97 rfl ?_
          refine v_aaldF (c := 10) (k := 2) F dX0_countOne_99 hv5 (Nat.le_of_ble_eq_true rfl) (Nat.le_of_ble_eq_true rfl) (by decide) (by decide) rfl (ar_X10_2 hX hv5) (Nat.le_of_ble_eq_true rfl) rfl rfl rfl rfl hi16 (v := ((v5 + 64) + v6)) (by show v5 + 64 + 1 * v6 = _; omega) ?_
          exact fX0_countOne_100_ok F hX hp hp1 hv5 hp1 (ae_X10_2 (i := v6) hX hv5 hi16 (v := ((v5 + 64) + v6)) (by omega)) h K
        · rw [if_neg hq19] at h
          refine v_aload F dX0_countOne_81 rfl ?_
          refine gf_X0_543 F dX0_countOne_83 hv5 (v := (v5 + 2)) rfl ?_
          refine v_iload F dX0_countOne_86 rfl ?_
          refine v_aaldF (c := 10) (k := 1) F dX0_countOne_88 hv5 (Nat.le_of_ble_eq_true rfl) (Nat.le_of_ble_eq_true rfl) (by decide) (by decide) rfl (ar_X10_1 hX hv5) (Nat.le_of_ble_eq_true rfl) rfl rfl rfl rfl hi16 (v := ((v5 + 3) + v6)) (by show v5 + 3 + 1 * v6 = _; omega) ?_
          refine v_goto F dX0_countOne_89 rfl ?_
          exact fX0_countOne_100_ok F hX hp hp1 hv5 hp1 (ae_X10_1 (i := v6) hX hv5 hi16 (v := ((v5 + 3) + v6)) (by omega)) h K
theorem fX0_countOne_42_ok {w : Wd} {l : Launch} {G : Cx} {d m dd : Dt} {a1 a2 a3 v4 v5 v6 : Int} {d' : Dt} {x : ((Dt × Int) ⊕ Dt)} (F : Fx w G cX0_countOne RX0 7 none { frames := 6, cells := 0, slots := 0, locals := 142 }) (hX : WF dd m) (hp : PB m 1 0) (hp1 : PB m a1 8) (hv5 : PB m v5 10) (h : fX0_countOne_42 d a1 a2 a3 v4 v5 v6 = some x) (K : (Sum.elim (fX0_countOne_23P w l G (QM w G WF none d' m 0 0) m a1 a2 a3) (fun q => q = d')) x) : V w l WF G (QM w G WF none d' m 0 0) d m 0 0 42 [mA 1, mA a1, mI a2, mI a3, mI v4, mA v5, mI v6] [] := by
  unfold fX0_countOne_42 at h
  exact loop_ok (P := fX0_countOne_42P w l G (QM w G WF none d' m 0 0) m a1 a2 a3 v4 v5) (fun s x hx h1 h2 => fX0_countOne_42f_ok F hX hp hp1 hv5 hx (by
    cases x with
    | inl s' => exact h1 s' rfl
    | inr z => cases h2 z rfl; exact K)) h
theorem fX0_countOne_23f_ok {w : Wd} {l : Launch} {G : Cx} {m dd : Dt} {a1 a2 a3 : Int} {d' : Dt} {s : Dt × Int} {x : ((Dt × Int) ⊕ Dt)} (F : Fx w G cX0_countOne RX0 7 none { frames := 6, cells := 0, slots := 0, locals := 142 }) (hX : WF dd m) (hp : PB m 1 0) (hp1 : PB m a1 8) (h : fX0_countOne_23f a1 a2 a3 s = some x) (K : (Sum.elim (fX0_countOne_23P w l G (QM w G WF none d' m 0 0) m a1 a2 a3) (fun q => q = d')) x) : V w l WF G (QM w G WF none d' m 0 0) s.1 m 0 0 23 [mA 1, mA a1, mI a2, mI a3, mI (s.2), mU, mU] [] := by
  obtain ⟨d, v4⟩ := s
  unfold fX0_countOne_23f at h
  dsimp only at h
  refine v_iload F dX0_countOne_23 rfl ?_
  refine v_bipush F dX0_countOne_25 rfl ⟨by decide, by decide⟩ ?_
  refine v_icmp_gt F dX0_countOne_27 rfl (fun hq7 => ?_) (fun hq7 => ?_)
  · rw [if_pos hq7] at h
    obtain ⟨z, hu, ez⟩ := up_some h
    clear h
    subst ez
    have h := hu
    clear hu
    refine v_aload_n F dX0_countOne_128 rfl rfl ?_
    obtain ⟨d8, hc9, h⟩ := bd_some h
    refine v_callV0 (c := 8) F dX0_countOne_129 cv_X0_558 rfl (PB.ob hp1 hX (Nat.le_of_ble_eq_true rfl)) (Nat.le_of_ble_eq_true rfl) rfl (vm_X8_run hp1 hc9) rfl (rOk.of rfl) ?_
    cases h
    cases (show _ = d' from K)
    exact v_vret F dX0_countOne_132
  · rw [if_neg hq7] at h
    refine v_aload_n F dX0_countOne_30 rfl rfl ?_
    refine gf_X0_120 F dX0_countOne_31 hp (v := 78) rfl ?_
    refine v_iload F dX0_countOne_34 rfl ?_
    obtain ⟨hi10, h⟩ := ck_some h
    refine v_aaldF (c := 0) (k := 34) F dX0_countOne_36 hp (Nat.le_of_ble_eq_true rfl) (Nat.le_of_ble_eq_true rfl) (by decide) (by decide) rfl (ar_X0_34 hX hp) (Nat.le_of_ble_eq_true rfl) rfl rfl rfl rfl hi10 (v := (677 + 124 * v4)) (by show 1 + 676 + 124 * v4 = _; omega) ?_
    obtain ⟨x11, ex11, h⟩ := lv_some h
    refine v_nA ex11 ?_
    have x11p : PB m x11 10 := by rw [ex11]; exact (ae_X0_34 (i := v4) hX hp hi10 (v := (677 + 124 * v4)) (by omega))
    refine v_astore F dX0_countOne_37 (Nat.le_of_ble_eq_true rfl) (L' := [mA 1, mA a1, mI a2, mI a3, mI v4, mA x11, mU]) rfl ?_
    refine v_iconst F dX0_countOne_39 ⟨by decide, by decide⟩ ?_
    refine v_istore F dX0_countOne_40 (Nat.le_of_ble_eq_true rfl) (L' := [mA 1, mA a1, mI a2, mI a3, mI v4, mA x11, mI 0]) rfl ?_
    exact fX0_countOne_42_ok F hX hp hp1 x11p h K
theorem fX0_countOne_23_ok {w : Wd} {l : Launch} {G : Cx} {d m dd : Dt} {a1 a2 a3 v4 : Int} {d' : Dt} {x : Dt} (F : Fx w G cX0_countOne RX0 7 none { frames := 6, cells := 0, slots := 0, locals := 142 }) (hX : WF dd m) (hp : PB m 1 0) (hp1 : PB m a1 8) (h : fX0_countOne_23 d a1 a2 a3 v4 = some x) (K : (fun q => q = d') x) : V w l WF G (QM w G WF none d' m 0 0) d m 0 0 23 [mA 1, mA a1, mI a2, mI a3, mI v4, mU, mU] [] := by
  unfold fX0_countOne_23 at h
  exact loop_ok (P := fX0_countOne_23P w l G (QM w G WF none d' m 0 0) m a1 a2 a3) (fun s x hx h1 h2 => fX0_countOne_23f_ok F hX hp hp1 hx (by
    cases x with
    | inl s' => exact h1 s' rfl
    | inr z => cases h2 z rfl; exact K)) h
theorem vm_X0_countOne {w : Wd} {l : Launch} {d m : Dt} {a1 a2 a3 : Int} {d' : Dt} (hp : PB m 1 0) (hp1 : PB m a1 8) (h : fX0_countOne d a1 a2 a3 = some d') : VM w l WF yX0_countOne cX0_countOne 7 none 6 142 0 0 d m [mA 1, mA a1, mI a2, mI a3] none d' m := by
  obtain ⟨x, h, K⟩ : ∃ x, fX0_countOne d a1 a2 a3 = some x ∧ x = d' := ⟨_, h, rfl⟩
  refine VM.of (L := [mA 1, mA a1, mI a2, mI a3, mU, mU, mU]) (by decide +kernel) rfl (Nat.le_of_ble_eq_true rfl) fun G F _ => v_fact fun _ hX _ _ => ?_
  unfold fX0_countOne at h
  refine v_aload_n F dX0_countOne_0 rfl rfl ?_
  refine v_aload_n F dX0_countOne_1 rfl rfl ?_
  obtain ⟨x1, ex1, h⟩ := lv_some h
  obtain ⟨hn3, h⟩ := ck_some h
  refine gf_X0_42 F dX0_countOne_2 hp ex1 fun hr2 => ?_
  have x1p := hr2.resolve_left hn3
  refine gf_X0_299 F dX0_countOne_5 x1p (v := (x1 + 11)) rfl ?_
  refine v_iload_n F dX0_countOne_8 rfl rfl ?_
  obtain ⟨hi4, h⟩ := ck_some h
  refine v_aaldF (c := 4) (k := 13) F dX0_countOne_9 x1p (Nat.le_of_ble_eq_true rfl) (Nat.le_of_ble_eq_true rfl) (by decide) (by decide) rfl (ar_X4_13 hX x1p) (Nat.le_of_ble_eq_true rfl) rfl rfl rfl rfl hi4 (v := ((x1 + 13) + a2)) (by show x1 + 13 + 1 * a2 = _; omega) ?_
  refine v_aload_n F dX0_countOne_10 rfl rfl ?_
  refine gf_X0_62 F dX0_countOne_11 hp (v := 57) rfl ?_
  refine v_iload_n F dX0_countOne_14 rfl rfl ?_
  refine v_aaldF (c := 0) (k := 13) F dX0_countOne_15 hp (Nat.le_of_ble_eq_true rfl) (Nat.le_of_ble_eq_true rfl) (by decide) (by decide) rfl (ar_X0_13 hX hp) (Nat.le_of_ble_eq_true rfl) rfl rfl rfl rfl hi4 (v := (629 + 8 * a2)) (by show 1 + 628 + 8 * a2 = _; omega) ?_
  refine v_iload_n F dX0_countOne_16 rfl rfl ?_
  obtain ⟨d5, hc6, h⟩ := bd_some h
  refine v_callV0 (c := 8) F dX0_countOne_17 cv_X0_549 rfl (PB.ob hp1 hX (Nat.le_of_ble_eq_true rfl)) (Nat.le_of_ble_eq_true rfl) rfl (vm_X8_begin hp1 (ae_X4_13 (i := a2) hX x1p hi4 (v := ((x1 + 13) + a2)) (by omega)) (ae_X0_13 (i := a2) hX hp hi4 (v := (629 + 8 * a2)) (by omega)) hc6) rfl (rOk.of rfl) ?_
  refine v_iconst F dX0_countOne_20 ⟨by decide, by decide⟩ ?_
  refine v_istore F dX0_countOne_21 (Nat.le_of_ble_eq_true rfl) (L' := [mA 1, mA a1, mI a2, mI a3, mI 0, mU, mU]) rfl ?_
  exact fX0_countOne_23_ok F hX hp hp1 h K
theorem vm_X8_addFirst {w : Wd} {l : Launch} {d m : Dt} {o a1 a2 : Int} {d' : Dt} (hp : PB m o 8) (h : fX8_addFirst d o a1 a2 = some d') : VM w l WF yX8_addFirst cX8_addFirst 3 none 0 0 0 0 d m [mA o, mI a1, mI a2] none d' m := by
  obtain ⟨x, h, K⟩ : ∃ x, fX8_addFirst d o a1 a2 = some x ∧ x = d' := ⟨_, h, rfl⟩
  refine VM.of (L := [mA o, mI a1, mI a2]) (by decide +kernel) rfl (Nat.le_of_ble_eq_true rfl) fun G F _ => v_fact fun _ hX _ _ => ?_
  unfold fX8_addFirst at h
  refine v_aload_n F dX8_addFirst_0 rfl rfl ?_
  refine v_dup_A F dX8_addFirst_1 ?_
  refine gf_X8_456 F dX8_addFirst_2 hp ?_
  refine v_iconst F dX8_addFirst_5 ⟨by decide, by decide⟩ ?_
  refine v_iadd F dX8_addFirst_6 ?_
  obtain ⟨d1, ed1, h⟩ := sd_some h
  refine pf_X8_456 F dX8_addFirst_7 hp ?_
  refine v_nD ed1 ?_
  refine v_aload_n F dX8_addFirst_10 rfl rfl ?_
  refine gf_X8_125 F dX8_addFirst_11 hp (v := (o + 240)) rfl ?_
  refine v_iload_n F dX8_addFirst_14 rfl rfl ?_
  refine v_iconst F dX8_addFirst_15 ⟨by decide, by decide⟩ ?_
  obtain ⟨hi2, h⟩ := ck_some h
  obtain ⟨d3, ed3, h⟩ := sd_some h
  refine v_zast F dX8_addFirst_16 (ar_X8_52 hX hp) hi2 ?_
  refine v_nD ed3 ?_
  refine v_iload_n F dX8_addFirst_17 rfl rfl ?_
  refine v_iconst F dX8_addFirst_18 ⟨by decide, by decide⟩ ?_
  refine v_icmp_eq F dX8_addFirst_19 rfl (fun hq4 => ?_) (fun hq4 => ?_)
  · rw [if_pos hq4] at h
    cases h
    cases (show _ = d' from K)
    exact v_vret F dX8_addFirst_32
  · rw [if_neg hq4] at h
    refine v_aload_n F dX8_addFirst_22 rfl rfl ?_
    refine gf_X8_122 F dX8_addFirst_23 hp (v := (o + 239)) rfl ?_
    refine v_iload_n F dX8_addFirst_26 rfl rfl ?_
    refine v_dup2_IA F dX8_addFirst_27 ?_
    obtain ⟨hi5, h⟩ := ck_some h
    refine v_iald F dX8_addFirst_28 (ar_X8_50 hX hp) hi5 ?_
    refine v_iconst F dX8_addFirst_29 ⟨by decide, by decide⟩ ?_
    refine v_iadd F dX8_addFirst_30 ?_
    obtain ⟨d6, ed6, h⟩ := sd_some h
    refine v_iast F dX8_addFirst_31 (ar_X8_50 hX hp) hi5 ?_
    refine v_nD ed6 ?_
    cases h
    cases (show _ = d' from K)
    exact v_vret F dX8_addFirst_32
def fX0_countFirsts_9P (w : Wd) (l : Launch) (G : Cx) (Q : State → Prop) (m : Dt) (a1 : Int) (s : Dt × Int) : Prop := V w l WF G Q s.1 m 0 0 9 [mA 1, mI a1, mI (s.2), mU, mU] []
def fX0_countFirsts_47P (w : Wd) (l : Launch) (G : Cx) (Q : State → Prop) (m : Dt) (a1 v2 : Int) (s : Dt × Int) : Prop := V w l WF G Q s.1 m 0 0 47 [mA 1, mI a1, mI v2, mI (s.2), mU] []
theorem fX0_countFirsts_47f_ok {w : Wd} {l : Launch} {G : Cx} {m dd : Dt} {a1 v2 : Int} {d' : Dt} {s : Dt × Int} {x : ((Dt × Int) ⊕ ((Dt × Int) ⊕ Dt))} (F : Fx w G cX0_countFirsts RX0 5 none { frames := 7, cells := 0, slots := 0, locals := 168 }) (hX : WF dd m) (hp : PB m 1 0) (h : fX0_countFirsts_47f a1 v2 s = some x) (K : (Sum.elim (fX0_countFirsts_47P w l G (QM w G WF none d' m 0 0) m a1 v2) (Sum.elim (fX0_countFirsts_9P w l G (QM w G WF none d' m 0 0) m a1) (fun q => q = d'))) x) : V w l WF G (QM w G WF none d' m 0 0) s.1 m 0 0 47 [mA 1, mI a1, mI v2, mI (s.2), mU] [] := by
  obtain ⟨d, v3⟩ := s
  unfold fX0_countFirsts_47f at h
  dsimp only at h
  refine v_iload_n F dX0_countFirsts_47 rfl rfl ?_
  refine v_aload_n F dX0_countFirsts_48 rfl rfl ?_
  refine gf_X0_131 F dX0_countFirsts_49 hp (v := 321) rfl ?_
  refine gf_X0_568 F dX0_countFirsts_52 (ob_X0_36 hX hp) ?_
  refine v_icmp_ge F dX0_countFirsts_55 rfl (fun hq15 => ?_) (fun hq15 => ?_)
  · rw [if_pos hq15] at h
    obtain ⟨z, hu, ez⟩ := up_some h
    clear h
    subst ez
    have h := hu
    clear hu
    obtain ⟨x16, ex16, h⟩ := lv_some h
    refine v_iincN F dX0_countFirsts_106 (Nat.le_of_ble_eq_true rfl) rfl ex16 (L' := [mA 1, mI a1, mI x16, mI v3, mU]) rfl ?_
    refine v_goto F dX0_countFirsts_109 rfl ?_
    cases h
    refine v_fgt (L' := [mA 1, mI a1, mI x16, mU, mU]) ⟨Or.inl rfl, Or.inl rfl, Or.inl rfl, Or.inr rfl, Or.inl rfl, trivial⟩ ?_
    exact K
  · rw [if_neg hq15] at h
    refine v_aload_n F dX0_countFirsts_58 rfl rfl ?_
    refine gf_X0_131 F dX0_countFirsts_59 hp (v := 321) rfl ?_
    refine gf_X0_571 F dX0_countFirsts_62 (ob_X0_36 hX hp) (v := 491) rfl ?_
    refine v_iload_n F dX0_countFirsts_65 rfl rfl ?_
    obtain ⟨hi17, h⟩ := ck_some h
    refine v_iald F dX0_countFirsts_66 (ar_X8_18 hX (ob_X0_36 hX hp)) hi17 ?_
    obtain ⟨x18, ex18, h⟩ := lv_some h
    refine v_nI ex18 ?_
    refine v_istore F dX0_countFirsts_67 (Nat.le_of_ble_eq_true rfl) (L' := [mA 1, mI a1, mI v2, mI v3, mI x18]) rfl ?_
    refine v_aload_n F dX0_countFirsts_69 rfl rfl ?_
    refine gf_X0_127 F dX0_countFirsts_70 hp (v := 79) rfl ?_
    refine v_aload_n F dX0_countFirsts_73 rfl rfl ?_
    refine gf_X0_62 F dX0_countFirsts_74 hp (v := 57) rfl ?_
    refine v_iload_n F dX0_countFirsts_77 rfl rfl ?_
    obtain ⟨hi19, h⟩ := ck_some h
    refine v_aaldF (c := 0) (k := 13) F dX0_countFirsts_78 hp (Nat.le_of_ble_eq_true rfl) (Nat.le_of_ble_eq_true rfl) (by decide) (by decide) rfl (ar_X0_13 hX hp) (Nat.le_of_ble_eq_true rfl) rfl rfl rfl rfl hi19 (v := (629 + 8 * v2)) (by show 1 + 628 + 8 * v2 = _; omega) ?_
    refine gf_X0_410 F dX0_countFirsts_79 (ae_X0_13 (i := v2) hX hp hi19 (v := (629 + 8 * v2)) (by omega)) (v := ((629 + 8 * v2) + 2)) rfl ?_
    refine v_iload F dX0_countFirsts_82 rfl ?_
    obtain ⟨hi20, h⟩ := ck_some h
    refine v_iald F dX0_countFirsts_84 (ar_X9_2 hX (ae_X0_13 (i := v2) hX hp hi19 (v := (629 + 8 * v2)) (by omega))) hi20 ?_
    refine v_aload_n F dX0_countFirsts_85 rfl rfl ?_
    refine gf_X0_62 F dX0_countFirsts_86 hp (v := 57) rfl ?_
    refine v_iload_n F dX0_countFirsts_89 rfl rfl ?_
    refine v_aaldF (c := 0) (k := 13) F dX0_countFirsts_90 hp (Nat.le_of_ble_eq_true rfl) (Nat.le_of_ble_eq_true rfl) (by decide) (by decide) rfl (ar_X0_13 hX hp) (Nat.le_of_ble_eq_true rfl) rfl rfl rfl rfl hi19 (v := (629 + 8 * v2)) (by show 1 + 628 + 8 * v2 = _; omega) ?_
    refine gf_X0_412 F dX0_countFirsts_91 (ae_X0_13 (i := v2) hX hp hi19 (v := (629 + 8 * v2)) (by omega)) (v := ((629 + 8 * v2) + 3)) rfl ?_
    refine v_iload F dX0_countFirsts_94 rfl ?_
    refine v_iald F dX0_countFirsts_96 (ar_X9_3 hX (ae_X0_13 (i := v2) hX hp hi19 (v := (629 + 8 * v2)) (by omega))) hi20 ?_
    obtain ⟨d21, hc22, h⟩ := bd_some h
    refine v_callV0 (c := 8) F dX0_countFirsts_97 cv_X0_574 rfl (PB.ob (ob_X0_35 hX hp) hX (Nat.le_of_ble_eq_true rfl)) (Nat.le_of_ble_eq_true rfl) rfl (vm_X8_addFirst (ob_X0_35 hX hp) hc22) rfl (rOk.of rfl) ?_
    obtain ⟨x23, ex23, h⟩ := lv_some h
    refine v_iincN F dX0_countFirsts_100 (Nat.le_of_ble_eq_true rfl) rfl ex23 (L' := [mA 1, mI a1, mI v2, mI x23, mI x18]) rfl ?_
    refine v_goto F dX0_countFirsts_103 rfl ?_
    cases h
    refine v_fgt (L' := [mA 1, mI a1, mI v2, mI x23, mU]) ⟨Or.inl rfl, Or.inl rfl, Or.inl rfl, Or.inl rfl, Or.inr rfl, trivial⟩ ?_
    exact K
theorem fX0_countFirsts_47_ok {w : Wd} {l : Launch} {G : Cx} {d m dd : Dt} {a1 v2 v3 : Int} {d' : Dt} {x : ((Dt × Int) ⊕ Dt)} (F : Fx w G cX0_countFirsts RX0 5 none { frames := 7, cells := 0, slots := 0, locals := 168 }) (hX : WF dd m) (hp : PB m 1 0) (h : fX0_countFirsts_47 d a1 v2 v3 = some x) (K : (Sum.elim (fX0_countFirsts_9P w l G (QM w G WF none d' m 0 0) m a1) (fun q => q = d')) x) : V w l WF G (QM w G WF none d' m 0 0) d m 0 0 47 [mA 1, mI a1, mI v2, mI v3, mU] [] := by
  unfold fX0_countFirsts_47 at h
  exact loop_ok (P := fX0_countFirsts_47P w l G (QM w G WF none d' m 0 0) m a1 v2) (fun s x hx h1 h2 => fX0_countFirsts_47f_ok F hX hp hx (by
    cases x with
    | inl s' => exact h1 s' rfl
    | inr z => cases h2 z rfl; exact K)) h
theorem fX0_countFirsts_9f_ok {w : Wd} {l : Launch} {G : Cx} {m dd : Dt} {a1 : Int} {d' : Dt} {s : Dt × Int} {x : ((Dt × Int) ⊕ Dt)} (F : Fx w G cX0_countFirsts RX0 5 none { frames := 7, cells := 0, slots := 0, locals := 168 }) (hX : WF dd m) (hp : PB m 1 0) (h : fX0_countFirsts_9f a1 s = some x) (K : (Sum.elim (fX0_countFirsts_9P w l G (QM w G WF none d' m 0 0) m a1) (fun q => q = d')) x) : V w l WF G (QM w G WF none d' m 0 0) s.1 m 0 0 9 [mA 1, mI a1, mI (s.2), mU, mU] [] := by
  obtain ⟨d, v2⟩ := s
  unfold fX0_countFirsts_9f at h
  dsimp only at h
  refine v_iload_n F dX0_countFirsts_9 rfl rfl ?_
  refine v_aload_n F dX0_countFirsts_10 rfl rfl ?_
  obtain ⟨x3, ex3, h⟩ := lv_some h
  obtain ⟨hn5, h⟩ := ck_some h
  refine gf_X0_42 F dX0_countFirsts_11 hp ex3 fun hr4 => ?_
  have x3p := hr4.resolve_left hn5
  refine gf_X0_259 F dX0_countFirsts_14 x3p ?_
  refine v_icmp_ge F dX0_countFirsts_17 rfl (fun hq6 => ?_) (fun hq6 => ?_)
  · rw [if_pos hq6] at h
    obtain ⟨z, hu, ez⟩ := up_some h
    clear h
    subst ez
    have h := hu
    clear hu
    cases h
    cases (show _ = d' from K)
    exact v_vret F dX0_countFirsts_112
  · rw [if_neg hq6] at h
    refine v_aload_n F dX0_countFirsts_20 rfl rfl ?_
    obtain ⟨x7, ex7, h⟩ := lv_some h
    obtain ⟨hn9, h⟩ := ck_some h
    refine gf_X0_42 F dX0_countFirsts_21 hp ex7 fun hr8 => ?_
    have x7p := hr8.resolve_left hn9
    refine gf_X0_299 F dX0_countFirsts_24 x7p (v := (x7 + 11)) rfl ?_
    refine v_iload_n F dX0_countFirsts_27 rfl rfl ?_
    obtain ⟨hi10, h⟩ := ck_some h
    refine v_aaldF (c := 4) (k := 13) F dX0_countFirsts_28 x7p (Nat.le_of_ble_eq_true rfl) (Nat.le_of_ble_eq_true rfl) (by decide) (by decide) rfl (ar_X4_13 hX x7p) (Nat.le_of_ble_eq_true rfl) rfl rfl rfl rfl hi10 (v := ((x7 + 13) + v2)) (by show x7 + 13 + 1 * v2 = _; omega) ?_
    refine gf_X0_311 F dX0_countFirsts_29 (ae_X4_13 (i := v2) hX x7p hi10 (v := ((x7 + 13) + v2)) (by omega)) ?_
    refine v_if_ne F dX0_countFirsts_32 rfl (fun hq11 => ?_) (fun hq11 => ?_)
    · rw [if_neg hq11] at h
      obtain ⟨x12, ex12, h⟩ := lv_some h
      refine v_iincN F dX0_countFirsts_106 (Nat.le_of_ble_eq_true rfl) rfl ex12 (L' := [mA 1, mI a1, mI x12, mU, mU]) rfl ?_
      refine v_goto F dX0_countFirsts_109 rfl ?_
      cases h
      exact K
    · rw [if_pos hq11] at h
      refine v_aload_n F dX0_countFirsts_35 rfl rfl ?_
      refine v_aload_n F dX0_countFirsts_36 rfl rfl ?_
      refine gf_X0_131 F dX0_countFirsts_37 hp (v := 321) rfl ?_
      refine v_iload_n F dX0_countFirsts_40 rfl rfl ?_
      refine v_iload_n F dX0_countFirsts_41 rfl rfl ?_
      obtain ⟨d13, hc14, h⟩ := bd_some h
      refine v_callV0 (c := 0) F dX0_countFirsts_42 cv_X0_564 rfl (PB.ob hp hX (Nat.le_of_ble_eq_true rfl)) (Nat.le_of_ble_eq_true rfl) rfl (vm_X0_countOne hp (ob_X0_36 hX hp) hc14) rfl (rOk.of rfl) ?_
      refine v_iconst F dX0_countFirsts_45 ⟨by decide, by decide⟩ ?_
      refine v_istore_n F dX0_countFirsts_46 rfl (Nat.le_of_ble_eq_true rfl) (L' := [mA 1, mI a1, mI v2, mI 0, mU]) rfl ?_
      exact fX0_countFirsts_47_ok F hX hp h K
theorem fX0_countFirsts_9_ok {w : Wd} {l : Launch} {G : Cx} {d m dd : Dt} {a1 v2 : Int} {d' : Dt} {x : Dt} (F : Fx w G cX0_countFirsts RX0 5 none { frames := 7, cells := 0, slots := 0, locals := 168 }) (hX : WF dd m) (hp : PB m 1 0) (h : fX0_countFirsts_9 d a1 v2 = some x) (K : (fun q => q = d') x) : V w l WF G (QM w G WF none d' m 0 0) d m 0 0 9 [mA 1, mI a1, mI v2, mU, mU] [] := by
  unfold fX0_countFirsts_9 at h
  exact loop_ok (P := fX0_countFirsts_9P w l G (QM w G WF none d' m 0 0) m a1) (fun s x hx h1 h2 => fX0_countFirsts_9f_ok F hX hp hx (by
    cases x with
    | inl s' => exact h1 s' rfl
    | inr z => cases h2 z rfl; exact K)) h
theorem vm_X0_countFirsts {w : Wd} {l : Launch} {d m : Dt} {a1 : Int} {d' : Dt} (hp : PB m 1 0) (h : fX0_countFirsts d a1 = some d') : VM w l WF yX0_countFirsts cX0_countFirsts 5 none 7 168 0 0 d m [mA 1, mI a1] none d' m := by
  obtain ⟨x, h, K⟩ : ∃ x, fX0_countFirsts d a1 = some x ∧ x = d' := ⟨_, h, rfl⟩
  refine VM.of (L := [mA 1, mI a1, mU, mU, mU]) (by decide +kernel) rfl (Nat.le_of_ble_eq_true rfl) fun G F _ => v_fact fun _ hX _ _ => ?_
  unfold fX0_countFirsts at h
  refine v_aload_n F dX0_countFirsts_0 rfl rfl ?_
  refine gf_X0_127 F dX0_countFirsts_1 hp (v := 79) rfl ?_
  obtain ⟨d1, hc2, h⟩ := bd_some h
  refine v_callV0 (c := 8) F dX0_countFirsts_4 cv_X0_561 rfl (PB.ob (ob_X0_35 hX hp) hX (Nat.le_of_ble_eq_true rfl)) (Nat.le_of_ble_eq_true rfl) rfl (vm_X8_beginFirsts (ob_X0_35 hX hp) hc2) rfl (rOk.of rfl) ?_
  refine v_iconst F dX0_countFirsts_7 ⟨by decide, by decide⟩ ?_
  refine v_istore_n F dX0_countFirsts_8 rfl (Nat.le_of_ble_eq_true rfl) (L' := [mA 1, mI a1, mI 0, mU, mU]) rfl ?_
  exact fX0_countFirsts_9_ok F hX hp h K
theorem fX0_count_77_ok {w : Wd} {l : Launch} {G : Cx} {d m dd : Dt} {a1 a2 s2 s3 : Int} {d' : Dt} {r : Int} {x : (Dt × Int)} (F : Fx w G cX0_count RX0 3 (some .int) { frames := 8, cells := 0, slots := 0, locals := 192 }) (hX : WF dd m) (hp : PB m 1 0) (h : fX0_count_77 d a1 a2 s2 s3 = some x) (K : (fun q => q = (d', r)) x) : V w l WF G (QM w G WF (some (mI r)) d' m 0 0) d m 0 0 77 [mA 1, mU, mU] [mI s3, mI s2, mA 79, mA 1] := by
  unfold fX0_count_77 at h
  obtain ⟨d14, hc15, h⟩ := bd_some h
  refine v_callV0 (c := 0) F dX0_count_77 cv_X0_564 rfl (PB.ob hp hX (Nat.le_of_ble_eq_true rfl)) (Nat.le_of_ble_eq_true rfl) rfl (vm_X0_countOne hp (ob_X0_35 hX hp) hc15) rfl (rOk.of rfl) ?_
  refine v_aload_n F dX0_count_80 rfl rfl ?_
  refine v_iconst F dX0_count_81 ⟨by decide, by decide⟩ ?_
  obtain ⟨d16, ed16, h⟩ := sd_some h
  refine pf_X0_287 F dX0_count_82 hp (Or.inr rfl) ?_
  refine v_nD ed16 ?_
  refine v_aload_n F dX0_count_85 rfl rfl ?_
  refine gf_X0_127 F dX0_count_86 hp (v := 79) rfl ?_
  refine gf_X0_568 F dX0_count_89 (ob_X0_35 hX hp) ?_
  cases h
  cases (show _ = (d', r) from K)
  exact v_iret F dX0_count_92
theorem fX0_count_61_ok {w : Wd} {l : Launch} {G : Cx} {d m dd : Dt} {a1 a2 : Int} {d' : Dt} {r : Int} {x : (Dt × Int)} (F : Fx w G cX0_count RX0 3 (some .int) { frames := 8, cells := 0, slots := 0, locals := 192 }) (hX : WF dd m) (hp : PB m 1 0) (h : fX0_count_61 d a1 a2 = some x) (K : (fun q => q = (d', r)) x) : V w l WF G (QM w G WF (some (mI r)) d' m 0 0) d m 0 0 61 [mA 1, mI a1, mI a2] [] := by
  unfold fX0_count_61 at h
  refine v_aload_n F dX0_count_61 rfl rfl ?_
  refine v_aload_n F dX0_count_62 rfl rfl ?_
  refine gf_X0_127 F dX0_count_63 hp (v := 79) rfl ?_
  refine v_iload_n F dX0_count_66 rfl rfl ?_
  refine v_iload_n F dX0_count_67 rfl rfl ?_
  refine v_iconst F dX0_count_68 ⟨by decide, by decide⟩ ?_
  refine v_icmp_ne F dX0_count_69 rfl (fun hq13 => ?_) (fun hq13 => ?_)
  · rw [if_neg hq13] at h
    refine v_iconst F dX0_count_76 ⟨by decide, by decide⟩ ?_
    refine v_fgt (L' := [mA 1, mU, mU]) ⟨Or.inl rfl, Or.inr rfl, Or.inr rfl, trivial⟩ ?_
    exact fX0_count_77_ok F hX hp h K
  · rw [if_pos hq13] at h
    refine v_iconst F dX0_count_72 ⟨by decide, by decide⟩ ?_
    refine v_goto F dX0_count_73 rfl ?_
    refine v_fgt (L' := [mA 1, mU, mU]) ⟨Or.inl rfl, Or.inr rfl, Or.inr rfl, trivial⟩ ?_
    exact fX0_count_77_ok F hX hp h K
theorem fX0_count_58_ok {w : Wd} {l : Launch} {G : Cx} {d m dd : Dt} {a1 a2 s1 : Int} {d' : Dt} {r : Int} {x : (Dt × Int)} (F : Fx w G cX0_count RX0 3 (some .int) { frames := 8, cells := 0, slots := 0, locals := 192 }) (hX : WF dd m) (hp : PB m 1 0) (h : fX0_count_58 d a1 a2 s1 = some x) (K : (fun q => q = (d', r)) x) : V w l WF G (QM w G WF (some (mI r)) d' m 0 0) d m 0 0 58 [mA 1, mI a1, mI a2] [mI s1, mA 1] := by
  unfold fX0_count_58 at h
  obtain ⟨d18, hc19, h⟩ := bd_some h
  refine v_callV0 (c := 0) F dX0_count_58 cv_X0_583 rfl (PB.ob hp hX (Nat.le_of_ble_eq_true rfl)) (Nat.le_of_ble_eq_true rfl) rfl (vm_X0_countFirsts hp hc19) rfl (rOk.of rfl) ?_
  exact fX0_count_61_ok F hX hp h K
theorem vm_X0_count {w : Wd} {l : Launch} {d m : Dt} {a1 a2 : Int} {d' : Dt} {r : Int} (hp : PB m 1 0) (h : fX0_count d a1 a2 = some (d', r)) : VM w l WF yX0_count cX0_count 3 (some .int) 8 192 0 0 d m [mA 1, mI a1, mI a2] (some (mI r)) d' m := by
  obtain ⟨x, h, K⟩ : ∃ x, fX0_count d a1 a2 = some x ∧ x = (d', r) := ⟨_, h, rfl⟩
  refine VM.of (L := [mA 1, mI a1, mI a2]) (by decide +kernel) rfl (Nat.le_of_ble_eq_true rfl) fun G F _ => v_fact fun _ hX _ _ => ?_
  unfold fX0_count at h
  refine v_aload_n F dX0_count_0 rfl rfl ?_
  refine v_iload_n F dX0_count_1 rfl rfl ?_
  obtain ⟨x1, hc2, h⟩ := b1_some h
  refine v_callVv (c := 0) F dX0_count_2 cv_X0_296 rfl (PB.ob hp hX (Nat.le_of_ble_eq_true rfl)) (Nat.le_of_ble_eq_true rfl) rfl (vm_X0_isContest hp hc2) rfl (rOk.of rfl) ?_
  refine v_if_ne F dX0_count_5 rfl (fun hq3 => ?_) (fun hq3 => ?_)
  · rw [if_neg hq3] at h
    refine v_iload_n F dX0_count_10 rfl rfl ?_
    refine v_iconst F dX0_count_11 ⟨by decide, by decide⟩ ?_
    refine v_iconst F dX0_count_12 ⟨by decide, by decide⟩ ?_
    refine v_callSv F dX0_count_13 cs_X0_163 rfl (vm_X0_within) rfl (rOk.of rfl) ?_
    refine v_if_ne F dX0_count_16 rfl (fun hq4 => ?_) (fun hq4 => ?_)
    · rw [if_neg hq4] at h
      refine v_aload_n F dX0_count_22 rfl rfl ?_
      obtain ⟨x5, hc6, h⟩ := b1_some h
      refine v_callVv (c := 0) F dX0_count_23 cv_X0_577 rfl (PB.ob hp hX (Nat.le_of_ble_eq_true rfl)) (Nat.le_of_ble_eq_true rfl) rfl (vm_X0_isReady hp hc6) rfl (rOk.of rfl) ?_
      refine v_if_ne F dX0_count_26 rfl (fun hq7 => ?_) (fun hq7 => ?_)
      · rw [if_neg hq7] at h
        refine v_aload_n F dX0_count_32 rfl rfl ?_
        obtain ⟨x8, ex8, h⟩ := lv_some h
        obtain ⟨hn10, h⟩ := ck_some h
        refine gf_X0_42 F dX0_count_33 hp ex8 fun hr9 => ?_
        have x8p := hr9.resolve_left hn10
        refine gf_X0_299 F dX0_count_36 x8p (v := (x8 + 11)) rfl ?_
        refine v_iload_n F dX0_count_39 rfl rfl ?_
        obtain ⟨hi11, h⟩ := ck_some h
        refine v_aaldF (c := 4) (k := 13) F dX0_count_40 x8p (Nat.le_of_ble_eq_true rfl) (Nat.le_of_ble_eq_true rfl) (by decide) (by decide) rfl (ar_X4_13 hX x8p) (Nat.le_of_ble_eq_true rfl) rfl rfl rfl rfl hi11 (v := ((x8 + 13) + a1)) (by show x8 + 13 + 1 * a1 = _; omega) ?_
        refine gf_X0_580 F dX0_count_41 (ae_X4_13 (i := a1) hX x8p hi11 (v := ((x8 + 13) + a1)) (by omega)) ?_
        refine v_if_eq F dX0_count_44 rfl (fun hq12 => ?_) (fun hq12 => ?_)
        · rw [if_pos hq12] at h
          exact fX0_count_61_ok F hX hp h K
        · rw [if_neg hq12] at h
          refine v_aload_n F dX0_count_47 rfl rfl ?_
          refine v_iload_n F dX0_count_48 rfl rfl ?_
          refine v_iconst F dX0_count_49 ⟨by decide, by decide⟩ ?_
          refine v_icmp_ne F dX0_count_50 rfl (fun hq17 => ?_) (fun hq17 => ?_)
          · rw [if_neg hq17] at h
            refine v_iconst F dX0_count_57 ⟨by decide, by decide⟩ ?_
            exact fX0_count_58_ok F hX hp h K
          · rw [if_pos hq17] at h
            refine v_iconst F dX0_count_53 ⟨by decide, by decide⟩ ?_
            refine v_goto F dX0_count_54 rfl ?_
            exact fX0_count_58_ok F hX hp h K
      · rw [if_pos hq7] at h
        refine v_bipush F dX0_count_29 rfl ⟨by decide, by decide⟩ ?_
        cases h
        cases (show _ = (d', r) from K)
        exact v_iret F dX0_count_31
    · rw [if_pos hq4] at h
      refine v_bipush F dX0_count_19 rfl ⟨by decide, by decide⟩ ?_
      cases h
      cases (show _ = (d', r) from K)
      exact v_iret F dX0_count_21
  · rw [if_pos hq3] at h
    refine v_iconst F dX0_count_8 ⟨by decide, by decide⟩ ?_
    cases h
    cases (show _ = (d', r) from K)
    exact v_iret F dX0_count_9
def fX11_areClosed_34P (w : Wd) (l : Launch) (G : Cx) (Q : State → Prop) (m : Dt) (d : Dt) (s : Int × Int) : Prop := V w l WF G Q d m 0 0 34 [mA 1545, mI (s.1), mI (s.2)] []
theorem fX11_areClosed_34f_ok {w : Wd} {l : Launch} {G : Cx} {d m dd : Dt} {r : Int} {s : Int × Int} {x : ((Int × Int) ⊕ Int)} (F : Fx w G cX11_areClosed RX11 3 (some .boolean) { frames := 1, cells := 0, slots := 0, locals := 21 }) (hX : WF dd m) (hp : PB m 1545 11) (h : fX11_areClosed_34f d s = some x) (K : (Sum.elim (fX11_areClosed_34P w l G (QM w G WF (some (mI r)) d m 0 0) m d) (fun q => q = r)) x) : V w l WF G (QM w G WF (some (mI r)) d m 0 0) d m 0 0 34 [mA 1545, mI (s.1), mI (s.2)] [] := by
  obtain ⟨v1, v2⟩ := s
  unfold fX11_areClosed_34f at h
  dsimp only at h
  refine v_iload_n F dX11_areClosed_34 rfl rfl ?_
  refine v_aload_n F dX11_areClosed_35 rfl rfl ?_
  refine gf_X11_540 F dX11_areClosed_36 hp ?_
  refine v_icmp_ge F dX11_areClosed_39 rfl (fun hq2 => ?_) (fun hq2 => ?_)
  · rw [if_pos hq2] at h
    obtain ⟨z, hu, ez⟩ := up_some h
    clear h
    subst ez
    have h := hu
    clear hu
    refine v_iload_n F dX11_areClosed_57 rfl rfl ?_
    obtain ⟨hb, h⟩ := ck_some h
    cases h
    cases (show _ = r from K)
    exact v_zret F hb dX11_areClosed_58
  · rw [if_neg hq2] at h
    refine v_iload_n F dX11_areClosed_42 rfl rfl ?_
    refine v_aload_n F dX11_areClosed_43 rfl rfl ?_
    refine gf_X11_552 F dX11_areClosed_44 hp (v := 1615) rfl ?_
    refine v_iload_n F dX11_areClosed_47 rfl rfl ?_
    obtain ⟨hi3, h⟩ := ck_some h
    refine v_zald F dX11_areClosed_48 (ar_X11_95 hX hp) hi3 ?_
    refine v_iand F dX11_areClosed_49 ?_
    obtain ⟨x4, ex4, h⟩ := lv_some h
    refine v_nI ex4 ?_
    refine v_istore_n F dX11_areClosed_50 rfl (Nat.le_of_ble_eq_true rfl) (L' := [mA 1545, mI x4, mI v2]) rfl ?_
    obtain ⟨x5, ex5, h⟩ := lv_some h
    refine v_iincN F dX11_areClosed_51 (Nat.le_of_ble_eq_true rfl) rfl ex5 (L' := [mA 1545, mI x4, mI x5]) rfl ?_
    refine v_goto F dX11_areClosed_54 rfl ?_
    cases h
    exact K
theorem fX11_areClosed_34_ok {w : Wd} {l : Launch} {G : Cx} {d m dd : Dt} {v1 v2 : Int} {r : Int} {x : Int} (F : Fx w G cX11_areClosed RX11 3 (some .boolean) { frames := 1, cells := 0, slots := 0, locals := 21 }) (hX : WF dd m) (hp : PB m 1545 11) (h : fX11_areClosed_34 d v1 v2 = some x) (K : (fun q => q = r) x) : V w l WF G (QM w G WF (some (mI r)) d m 0 0) d m 0 0 34 [mA 1545, mI v1, mI v2] [] := by
  unfold fX11_areClosed_34 at h
  exact loop_ok (P := fX11_areClosed_34P w l G (QM w G WF (some (mI r)) d m 0 0) m d) (fun s x hx h1 h2 => fX11_areClosed_34f_ok F hX hp hx (by
    cases x with
    | inl s' => exact h1 s' rfl
    | inr z => cases h2 z rfl; exact K)) h
theorem vm_X11_areClosed {w : Wd} {l : Launch} {d m : Dt} {r : Int} (hp : PB m 1545 11) (h : fX11_areClosed d = some r) : VM w l WF yX11_areClosed cX11_areClosed 3 (some .boolean) 1 21 0 0 d m [mA 1545] (some (mI r)) d m := by
  obtain ⟨x, h, K⟩ : ∃ x, fX11_areClosed d = some x ∧ x = r := ⟨_, h, rfl⟩
  refine VM.of (L := [mA 1545, mU, mU]) (by decide +kernel) rfl (Nat.le_of_ble_eq_true rfl) fun G F _ => v_fact fun _ hX _ _ => ?_
  unfold fX11_areClosed at h
  refine v_aload_n F dX11_areClosed_0 rfl rfl ?_
  refine gf_X11_531 F dX11_areClosed_1 hp ?_
  refine v_if_eq F dX11_areClosed_4 rfl (fun hq1 => ?_) (fun hq1 => ?_)
  · rw [if_pos hq1] at h
    refine v_iconst F dX11_areClosed_30 ⟨by decide, by decide⟩ ?_
    refine v_istore_n F dX11_areClosed_31 rfl (Nat.le_of_ble_eq_true rfl) (L' := [mA 1545, mI 0, mU]) rfl ?_
    refine v_iconst F dX11_areClosed_32 ⟨by decide, by decide⟩ ?_
    refine v_istore_n F dX11_areClosed_33 rfl (Nat.le_of_ble_eq_true rfl) (L' := [mA 1545, mI 0, mI 0]) rfl ?_
    exact fX11_areClosed_34_ok F hX hp h K
  · rw [if_neg hq1] at h
    refine v_aload_n F dX11_areClosed_7 rfl rfl ?_
    refine v_bipush F dX11_areClosed_8 rfl ⟨by decide, by decide⟩ ?_
    obtain ⟨x6, hc7, h⟩ := b1_some h
    refine v_callVv (c := 11) F dX11_areClosed_10 cv_X11_466 rfl (PB.ob hp hX (Nat.le_of_ble_eq_true rfl)) (Nat.le_of_ble_eq_true rfl) rfl (vm_X11_lawIs hp hc7) rfl (rOk.of rfl) ?_
    refine v_if_eq F dX11_areClosed_13 rfl (fun hq8 => ?_) (fun hq8 => ?_)
    · rw [if_pos hq8] at h
      refine v_iconst F dX11_areClosed_26 ⟨by decide, by decide⟩ ?_
      refine v_goto F dX11_areClosed_27 rfl ?_
      refine v_istore_n F dX11_areClosed_31 rfl (Nat.le_of_ble_eq_true rfl) (L' := [mA 1545, mI 1, mU]) rfl ?_
      refine v_iconst F dX11_areClosed_32 ⟨by decide, by decide⟩ ?_
      refine v_istore_n F dX11_areClosed_33 rfl (Nat.le_of_ble_eq_true rfl) (L' := [mA 1545, mI 1, mI 0]) rfl ?_
      exact fX11_areClosed_34_ok F hX hp h K
    · rw [if_neg hq8] at h
      refine v_aload_n F dX11_areClosed_16 rfl rfl ?_
      refine gf_X11_552 F dX11_areClosed_17 hp (v := 1615) rfl ?_
      refine v_bipush F dX11_areClosed_20 rfl ⟨by decide, by decide⟩ ?_
      refine v_zald F dX11_areClosed_22 (ar_X11_95 hX hp) ⟨by decide, by decide⟩ ?_
      refine v_if_eq F dX11_areClosed_23 rfl (fun hq9 => ?_) (fun hq9 => ?_)
      · rw [if_pos hq9] at h
        refine v_iconst F dX11_areClosed_30 ⟨by decide, by decide⟩ ?_
        refine v_istore_n F dX11_areClosed_31 rfl (Nat.le_of_ble_eq_true rfl) (L' := [mA 1545, mI 0, mU]) rfl ?_
        refine v_iconst F dX11_areClosed_32 ⟨by decide, by decide⟩ ?_
        refine v_istore_n F dX11_areClosed_33 rfl (Nat.le_of_ble_eq_true rfl) (L' := [mA 1545, mI 0, mI 0]) rfl ?_
        exact fX11_areClosed_34_ok F hX hp h K
      · rw [if_neg hq9] at h
        refine v_iconst F dX11_areClosed_26 ⟨by decide, by decide⟩ ?_
        refine v_goto F dX11_areClosed_27 rfl ?_
        refine v_istore_n F dX11_areClosed_31 rfl (Nat.le_of_ble_eq_true rfl) (L' := [mA 1545, mI 1, mU]) rfl ?_
        refine v_iconst F dX11_areClosed_32 ⟨by decide, by decide⟩ ?_
        refine v_istore_n F dX11_areClosed_33 rfl (Nat.le_of_ble_eq_true rfl) (L' := [mA 1545, mI 1, mI 0]) rfl ?_
        exact fX11_areClosed_34_ok F hX hp h K
def fX11_rank_9P (w : Wd) (l : Launch) (G : Cx) (Q : State → Prop) (m : Dt) (a1 : Int) (s : Dt × Int) : Prop := V w l WF G Q s.1 m 0 0 9 [mA 1545, mI a1, mI (s.2), mU, mU, mU] []
def fX11_rank_23P (w : Wd) (l : Launch) (G : Cx) (Q : State → Prop) (m : Dt) (d : Dt) (a1 v2 : Int) (s : Int × Int × Int) : Prop := V w l WF G Q d m 0 0 23 [mA 1545, mI a1, mI v2, mI (s.1), mI (s.2.1), mI (s.2.2)] []
theorem fX11_rank_23f_ok {w : Wd} {l : Launch} {G : Cx} {d m dd : Dt} {a1 v2 : Int} {d' : Dt} {s : Int × Int × Int} {x : ((Int × Int × Int) ⊕ ((Dt × Int) ⊕ Dt))} (F : Fx w G cX11_rank RX11 6 none { frames := 0, cells := 0, slots := 0, locals := 0 }) (hX : WF dd m) (hp : PB m 1545 11) (h : fX11_rank_23f d a1 v2 s = some x) (K : (Sum.elim (fX11_rank_23P w l G (QM w G WF none d' m 0 0) m d a1 v2) (Sum.elim (fX11_rank_9P w l G (QM w G WF none d' m 0 0) m a1) (fun q => q = d'))) x) : V w l WF G (QM w G WF none d' m 0 0) d m 0 0 23 [mA 1545, mI a1, mI v2, mI (s.1), mI (s.2.1), mI (s.2.2)] [] := by
  obtain ⟨v3, v4, v5⟩ := s
  unfold fX11_rank_23f at h
  dsimp only at h
  refine v_iload F dX11_rank_23 rfl ?_
  refine v_aload_n F dX11_rank_25 rfl rfl ?_
  refine gf_X11_755 F dX11_rank_26 hp ?_
  refine v_icmp_ge F dX11_rank_29 rfl (fun hq4 => ?_) (fun hq4 => ?_)
  · rw [if_pos hq4] at h
    obtain ⟨z, hu, ez⟩ := up_some h
    clear h
    subst ez
    have h := hu
    clear hu
    refine v_iload F dX11_rank_60 rfl ?_
    refine v_iconst F dX11_rank_62 ⟨by decide, by decide⟩ ?_
    refine v_icmp_le F dX11_rank_63 rfl (fun hq5 => ?_) (fun hq5 => ?_)
    · rw [if_pos hq5] at h
      refine v_iload F dX11_rank_67 rfl ?_
      refine v_iconst F dX11_rank_69 ⟨by decide, by decide⟩ ?_
      refine v_icmp_ne F dX11_rank_70 rfl (fun hq6 => ?_) (fun hq6 => ?_)
      · rw [if_neg hq6] at h
        obtain ⟨x7, ex7, h⟩ := lv_some h
        refine v_iincN F dX11_rank_100 (Nat.le_of_ble_eq_true rfl) rfl ex7 (L' := [mA 1545, mI a1, mI x7, mI v3, mI v4, mI v5]) rfl ?_
        refine v_goto F dX11_rank_103 rfl ?_
        cases h
        refine v_fgt (L' := [mA 1545, mI a1, mI x7, mU, mU, mU]) ⟨Or.inl rfl, Or.inl rfl, Or.inl rfl, Or.inr rfl, Or.inr rfl, Or.inr rfl, trivial⟩ ?_
        exact K
      · rw [if_pos hq6] at h
        refine v_aload_n F dX11_rank_73 rfl rfl ?_
        refine gf_X11_792 F dX11_rank_74 hp (v := 1619) rfl ?_
        refine v_bipush F dX11_rank_77 rfl ⟨by decide, by decide⟩ ?_
        refine v_iload_n F dX11_rank_79 rfl rfl ?_
        refine v_imul F dX11_rank_80 ?_
        refine v_aload_n F dX11_rank_81 rfl rfl ?_
        refine gf_X11_789 F dX11_rank_82 hp (v := 1620) rfl ?_
        refine v_iload_n F dX11_rank_85 rfl rfl ?_
        obtain ⟨hi8, h⟩ := ck_some h
        refine v_iald F dX11_rank_86 (ar_X11_107 hX hp) hi8 ?_
        refine v_iadd F dX11_rank_87 ?_
        refine v_iload_n F dX11_rank_88 rfl rfl ?_
        obtain ⟨x9, ex9, h⟩ := lv_some h
        refine v_n2 ex9 ?_
        obtain ⟨hi10, h⟩ := ck_some h
        obtain ⟨d11, ed11, h⟩ := sd_some h
        refine v_iast F dX11_rank_89 (ar_X11_106 hX hp) hi10 ?_
        refine v_nD ed11 ?_
        refine v_aload_n F dX11_rank_90 rfl rfl ?_
        refine gf_X11_789 F dX11_rank_91 hp (v := 1620) rfl ?_
        refine v_iload_n F dX11_rank_94 rfl rfl ?_
        refine v_dup2_IA F dX11_rank_95 ?_
        refine v_iald F dX11_rank_96 (ar_X11_107 hX hp) hi8 ?_
        refine v_iconst F dX11_rank_97 ⟨by decide, by decide⟩ ?_
        refine v_iadd F dX11_rank_98 ?_
        obtain ⟨d12, ed12, h⟩ := sd_some h
        refine v_iast F dX11_rank_99 (ar_X11_107 hX hp) hi8 ?_
        refine v_nD ed12 ?_
        obtain ⟨x13, ex13, h⟩ := lv_some h
        refine v_iincN F dX11_rank_100 (Nat.le_of_ble_eq_true rfl) rfl ex13 (L' := [mA 1545, mI a1, mI x13, mI v3, mI v4, mI v5]) rfl ?_
        refine v_goto F dX11_rank_103 rfl ?_
        cases h
        refine v_fgt (L' := [mA 1545, mI a1, mI x13, mU, mU, mU]) ⟨Or.inl rfl, Or.inl rfl, Or.inl rfl, Or.inr rfl, Or.inr rfl, Or.inr rfl, trivial⟩ ?_
        exact K
    · rw [if_neg hq5] at h
      obtain ⟨z, hu, ez⟩ := up_some h
      clear h
      subst ez
      have h := hu
      clear hu
      cases h
      cases (show _ = d' from K)
      exact v_vret F dX11_rank_66
  · rw [if_neg hq4] at h
    refine v_aload_n F dX11_rank_32 rfl rfl ?_
    refine gf_X11_780 F dX11_rank_33 hp (v := 1618) rfl ?_
    refine v_bipush F dX11_rank_36 rfl ⟨by decide, by decide⟩ ?_
    refine v_iload_n F dX11_rank_38 rfl rfl ?_
    refine v_imul F dX11_rank_39 ?_
    refine v_iload F dX11_rank_40 rfl ?_
    refine v_iadd F dX11_rank_42 ?_
    obtain ⟨x14, ex14, h⟩ := lv_some h
    refine v_nI ex14 ?_
    obtain ⟨hi15, h⟩ := ck_some h
    refine v_iald F dX11_rank_43 (ar_X11_105 hX hp) hi15 ?_
    refine v_iload_n F dX11_rank_44 rfl rfl ?_
    refine v_icmp_ne F dX11_rank_45 rfl (fun hq16 => ?_) (fun hq16 => ?_)
    · rw [if_neg hq16] at h
      obtain ⟨x17, ex17, h⟩ := lv_some h
      refine v_iincN F dX11_rank_54 (Nat.le_of_ble_eq_true rfl) rfl ex17 (L' := [mA 1545, mI a1, mI v2, mI v3, mI v4, mI x17]) rfl ?_
      refine v_goto F dX11_rank_57 rfl ?_
      cases h
      exact K
    · rw [if_pos hq16] at h
      refine v_iload F dX11_rank_48 rfl ?_
      refine v_istore_n F dX11_rank_50 rfl (Nat.le_of_ble_eq_true rfl) (L' := [mA 1545, mI a1, mI v2, mI v5, mI v4, mI v5]) rfl ?_
      obtain ⟨x18, ex18, h⟩ := lv_some h
      refine v_iincN F dX11_rank_51 (Nat.le_of_ble_eq_true rfl) rfl ex18 (L' := [mA 1545, mI a1, mI v2, mI v5, mI x18, mI v5]) rfl ?_
      obtain ⟨x19, ex19, h⟩ := lv_some h
      refine v_iincN F dX11_rank_54 (Nat.le_of_ble_eq_true rfl) rfl ex19 (L' := [mA 1545, mI a1, mI v2, mI v5, mI x18, mI x19]) rfl ?_
      refine v_goto F dX11_rank_57 rfl ?_
      cases h
      exact K
theorem fX11_rank_23_ok {w : Wd} {l : Launch} {G : Cx} {d m dd : Dt} {a1 v2 v3 v4 v5 : Int} {d' : Dt} {x : ((Dt × Int) ⊕ Dt)} (F : Fx w G cX11_rank RX11 6 none { frames := 0, cells := 0, slots := 0, locals := 0 }) (hX : WF dd m) (hp : PB m 1545 11) (h : fX11_rank_23 d a1 v2 v3 v4 v5 = some x) (K : (Sum.elim (fX11_rank_9P w l G (QM w G WF none d' m 0 0) m a1) (fun q => q = d')) x) : V w l WF G (QM w G WF none d' m 0 0) d m 0 0 23 [mA 1545, mI a1, mI v2, mI v3, mI v4, mI v5] [] := by
  unfold fX11_rank_23 at h
  exact loop_ok (P := fX11_rank_23P w l G (QM w G WF none d' m 0 0) m d a1 v2) (fun s x hx h1 h2 => fX11_rank_23f_ok F hX hp hx (by
    cases x with
    | inl s' => exact h1 s' rfl
    | inr z => cases h2 z rfl; exact K)) h
theorem fX11_rank_9f_ok {w : Wd} {l : Launch} {G : Cx} {m dd : Dt} {a1 : Int} {d' : Dt} {s : Dt × Int} {x : ((Dt × Int) ⊕ Dt)} (F : Fx w G cX11_rank RX11 6 none { frames := 0, cells := 0, slots := 0, locals := 0 }) (hX : WF dd m) (hp : PB m 1545 11) (h : fX11_rank_9f a1 s = some x) (K : (Sum.elim (fX11_rank_9P w l G (QM w G WF none d' m 0 0) m a1) (fun q => q = d')) x) : V w l WF G (QM w G WF none d' m 0 0) s.1 m 0 0 9 [mA 1545, mI a1, mI (s.2), mU, mU, mU] [] := by
  obtain ⟨d, v2⟩ := s
  unfold fX11_rank_9f at h
  dsimp only at h
  refine v_iload_n F dX11_rank_9 rfl rfl ?_
  refine v_bipush F dX11_rank_10 rfl ⟨by decide, by decide⟩ ?_
  refine v_icmp_gt F dX11_rank_12 rfl (fun hq3 => ?_) (fun hq3 => ?_)
  · rw [if_pos hq3] at h
    obtain ⟨z, hu, ez⟩ := up_some h
    clear h
    subst ez
    have h := hu
    clear hu
    cases h
    cases (show _ = d' from K)
    exact v_vret F dX11_rank_106
  · rw [if_neg hq3] at h
    refine v_iconst F dX11_rank_15 ⟨by decide, by decide⟩ ?_
    refine v_istore_n F dX11_rank_16 rfl (Nat.le_of_ble_eq_true rfl) (L' := [mA 1545, mI a1, mI v2, mI (-1), mU, mU]) rfl ?_
    refine v_iconst F dX11_rank_17 ⟨by decide, by decide⟩ ?_
    refine v_istore F dX11_rank_18 (Nat.le_of_ble_eq_true rfl) (L' := [mA 1545, mI a1, mI v2, mI (-1), mI 0, mU]) rfl ?_
    refine v_iconst F dX11_rank_20 ⟨by decide, by decide⟩ ?_
    refine v_istore F dX11_rank_21 (Nat.le_of_ble_eq_true rfl) (L' := [mA 1545, mI a1, mI v2, mI (-1), mI 0, mI 0]) rfl ?_
    exact fX11_rank_23_ok F hX hp h K
theorem fX11_rank_9_ok {w : Wd} {l : Launch} {G : Cx} {d m dd : Dt} {a1 v2 : Int} {d' : Dt} {x : Dt} (F : Fx w G cX11_rank RX11 6 none { frames := 0, cells := 0, slots := 0, locals := 0 }) (hX : WF dd m) (hp : PB m 1545 11) (h : fX11_rank_9 d a1 v2 = some x) (K : (fun q => q = d') x) : V w l WF G (QM w G WF none d' m 0 0) d m 0 0 9 [mA 1545, mI a1, mI v2, mU, mU, mU] [] := by
  unfold fX11_rank_9 at h
  exact loop_ok (P := fX11_rank_9P w l G (QM w G WF none d' m 0 0) m a1) (fun s x hx h1 h2 => fX11_rank_9f_ok F hX hp hx (by
    cases x with
    | inl s' => exact h1 s' rfl
    | inr z => cases h2 z rfl; exact K)) h
theorem vm_X11_rank {w : Wd} {l : Launch} {d m : Dt} {a1 : Int} {d' : Dt} (hp : PB m 1545 11) (h : fX11_rank d a1 = some d') : VM w l WF yX11_rank cX11_rank 6 none 0 0 0 0 d m [mA 1545, mI a1] none d' m := by
  obtain ⟨x, h, K⟩ : ∃ x, fX11_rank d a1 = some x ∧ x = d' := ⟨_, h, rfl⟩
  refine VM.of (L := [mA 1545, mI a1, mU, mU, mU, mU]) (by decide +kernel) rfl (Nat.le_of_ble_eq_true rfl) fun G F _ => v_fact fun _ hX _ _ => ?_
  unfold fX11_rank at h
  refine v_aload_n F dX11_rank_0 rfl rfl ?_
  refine gf_X11_789 F dX11_rank_1 hp (v := 1620) rfl ?_
  refine v_iload_n F dX11_rank_4 rfl rfl ?_
  refine v_iconst F dX11_rank_5 ⟨by decide, by decide⟩ ?_
  obtain ⟨hi1, h⟩ := ck_some h
  obtain ⟨d2, ed2, h⟩ := sd_some h
  refine v_iast F dX11_rank_6 (ar_X11_107 hX hp) hi1 ?_
  refine v_nD ed2 ?_
  refine v_iconst F dX11_rank_7 ⟨by decide, by decide⟩ ?_
  refine v_istore_n F dX11_rank_8 rfl (Nat.le_of_ble_eq_true rfl) (L' := [mA 1545, mI a1, mI 1, mU, mU, mU]) rfl ?_
  exact fX11_rank_9_ok F hX hp h K
theorem vm_X11_partyOf {w : Wd} {l : Launch} {d m : Dt} {a1 : Int} {r : Int} (hp : PB m 1545 11) (h : fX11_partyOf d a1 = some r) : VM w l WF yX11_partyOf cX11_partyOf 2 (some .int) 0 0 0 0 d m [mA 1545, mI a1] (some (mI r)) d m := by
  obtain ⟨x, h, K⟩ : ∃ x, fX11_partyOf d a1 = some x ∧ x = r := ⟨_, h, rfl⟩
  refine VM.of (L := [mA 1545, mI a1]) (by decide +kernel) rfl (Nat.le_of_ble_eq_true rfl) fun G F _ => v_fact fun _ hX _ _ => ?_
  unfold fX11_partyOf at h
  refine v_aload_n F dX11_partyOf_0 rfl rfl ?_
  refine gf_X11_584 F dX11_partyOf_1 hp (v := 1584) rfl ?_
  refine v_aload_n F dX11_partyOf_4 rfl rfl ?_
  refine gf_X11_608 F dX11_partyOf_5 hp (v := 1590) rfl ?_
  refine v_bipush F dX11_partyOf_8 rfl ⟨by decide, by decide⟩ ?_
  refine v_aload_n F dX11_partyOf_10 rfl rfl ?_
  refine gf_X11_749 F dX11_partyOf_11 hp ?_
  refine v_imul F dX11_partyOf_14 ?_
  refine v_iload_n F dX11_partyOf_15 rfl rfl ?_
  refine v_iadd F dX11_partyOf_16 ?_
  obtain ⟨x1, ex1, h⟩ := lv_some h
  refine v_nI ex1 ?_
  obtain ⟨hi2, h⟩ := ck_some h
  refine v_iald F dX11_partyOf_17 (ar_X11_66 hX hp) hi2 ?_
  obtain ⟨x3, ex3, h⟩ := lv_some h
  refine v_nI ex3 ?_
  obtain ⟨hi4, h⟩ := ck_some h
  refine v_iald F dX11_partyOf_18 (ar_X11_59 hX hp) hi4 ?_
  cases h
  cases (show _ = r from K)
  exact v_iret F dX11_partyOf_19
theorem vm_X11_areOneList {w : Wd} {l : Launch} {d m : Dt} {a1 a2 : Int} {r : Int} (hp : PB m 1545 11) (h : fX11_areOneList d a1 a2 = some r) : VM w l WF yX11_areOneList cX11_areOneList 3 (some .boolean) 1 21 0 0 d m [mA 1545, mI a1, mI a2] (some (mI r)) d m := by
  obtain ⟨x, h, K⟩ : ∃ x, fX11_areOneList d a1 a2 = some x ∧ x = r := ⟨_, h, rfl⟩
  refine VM.of (L := [mA 1545, mI a1, mI a2]) (by decide +kernel) rfl (Nat.le_of_ble_eq_true rfl) fun G F _ => v_fact fun _ hX _ _ => ?_
  unfold fX11_areOneList at h
  refine v_iload_n F dX11_areOneList_0 rfl rfl ?_
  refine v_iload_n F dX11_areOneList_1 rfl rfl ?_
  refine v_icmp_eq F dX11_areOneList_2 rfl (fun hq1 => ?_) (fun hq1 => ?_)
  · rw [if_pos hq1] at h
    refine v_iconst F dX11_areOneList_26 ⟨by decide, by decide⟩ ?_
    refine v_goto F dX11_areOneList_27 rfl ?_
    cases h
    cases (show _ = r from K)
    exact v_zret F (Or.inr rfl) dX11_areOneList_31
  · rw [if_neg hq1] at h
    refine v_aload_n F dX11_areOneList_5 rfl rfl ?_
    refine v_iload_n F dX11_areOneList_6 rfl rfl ?_
    obtain ⟨x2, hc3, h⟩ := b1_some h
    refine v_callVv (c := 11) F dX11_areOneList_7 cv_X11_752 rfl (PB.ob hp hX (Nat.le_of_ble_eq_true rfl)) (Nat.le_of_ble_eq_true rfl) rfl (vm_X11_partyOf hp hc3) rfl (rOk.of rfl) ?_
    refine v_if_lt F dX11_areOneList_10 rfl (fun hq4 => ?_) (fun hq4 => ?_)
    · rw [if_pos hq4] at h
      refine v_iconst F dX11_areOneList_30 ⟨by decide, by decide⟩ ?_
      cases h
      cases (show _ = r from K)
      exact v_zret F (Or.inl rfl) dX11_areOneList_31
    · rw [if_neg hq4] at h
      refine v_aload_n F dX11_areOneList_13 rfl rfl ?_
      refine v_iload_n F dX11_areOneList_14 rfl rfl ?_
      obtain ⟨x5, hc6, h⟩ := b1_some h
      refine v_callVv (c := 11) F dX11_areOneList_15 cv_X11_752 rfl (PB.ob hp hX (Nat.le_of_ble_eq_true rfl)) (Nat.le_of_ble_eq_true rfl) rfl (vm_X11_partyOf hp hc6) rfl (rOk.of rfl) ?_
      refine v_aload_n F dX11_areOneList_18 rfl rfl ?_
      refine v_iload_n F dX11_areOneList_19 rfl rfl ?_
      obtain ⟨x7, hc8, h⟩ := b1_some h
      refine v_callVv (c := 11) F dX11_areOneList_20 cv_X11_752 rfl (PB.ob hp hX (Nat.le_of_ble_eq_true rfl)) (Nat.le_of_ble_eq_true rfl) rfl (vm_X11_partyOf hp hc8) rfl (rOk.of rfl) ?_
      refine v_icmp_ne F dX11_areOneList_23 rfl (fun hq9 => ?_) (fun hq9 => ?_)
      · rw [if_neg hq9] at h
        refine v_iconst F dX11_areOneList_30 ⟨by decide, by decide⟩ ?_
        cases h
        cases (show _ = r from K)
        exact v_zret F (Or.inl rfl) dX11_areOneList_31
      · rw [if_pos hq9] at h
        refine v_iconst F dX11_areOneList_26 ⟨by decide, by decide⟩ ?_
        refine v_goto F dX11_areOneList_27 rfl ?_
        cases h
        cases (show _ = r from K)
        exact v_zret F (Or.inr rfl) dX11_areOneList_31
theorem fX11_isBad_109_ok {w : Wd} {l : Launch} {G : Cx} {d m dd : Dt} {a1 a2 : Int} {r : Int} {x : Int} (F : Fx w G cX11_isBad RX11 5 (some .boolean) { frames := 2, cells := 0, slots := 0, locals := 43 }) (hX : WF dd m) (hp : PB m 1545 11) (h : fX11_isBad_109 d a1 a2 = some x) (K : (fun q => q = r) x) : V w l WF G (QM w G WF (some (mI r)) d m 0 0) d m 0 0 109 [mA 1545, mU, mU, mU, mU] [] := by
  unfold fX11_isBad_109 at h
  refine v_aload_n F dX11_isBad_109 rfl rfl ?_
  refine gf_X11_789 F dX11_isBad_110 hp (v := 1620) rfl ?_
  refine v_aload_n F dX11_isBad_113 rfl rfl ?_
  refine gf_X11_767 F dX11_isBad_114 hp ?_
  obtain ⟨x11, ex11, h⟩ := lv_some h
  refine v_nI ex11 ?_
  obtain ⟨hi12, h⟩ := ck_some h
  refine v_iald F dX11_isBad_117 (ar_X11_107 hX hp) hi12 ?_
  refine v_if_ne F dX11_isBad_118 rfl (fun hq13 => ?_) (fun hq13 => ?_)
  · rw [if_neg hq13] at h
    refine v_iconst F dX11_isBad_125 ⟨by decide, by decide⟩ ?_
    cases h
    cases (show _ = r from K)
    exact v_zret F (Or.inl rfl) dX11_isBad_126
  · rw [if_pos hq13] at h
    refine v_iconst F dX11_isBad_121 ⟨by decide, by decide⟩ ?_
    refine v_goto F dX11_isBad_122 rfl ?_
    cases h
    cases (show _ = r from K)
    exact v_zret F (Or.inr rfl) dX11_isBad_126
def fX11_isBad_132P (w : Wd) (l : Launch) (G : Cx) (Q : State → Prop) (m : Dt) (d : Dt) (a1 a2 : Int) (s : Int × Int) : Prop := V w l WF G Q d m 0 0 132 [mA 1545, mI a1, mU, mI (s.1), mI (s.2)] []
theorem fX11_isBad_132f_ok {w : Wd} {l : Launch} {G : Cx} {d m dd : Dt} {a1 a2 : Int} {r : Int} {s : Int × Int} {x : ((Int × Int) ⊕ Int)} (F : Fx w G cX11_isBad RX11 5 (some .boolean) { frames := 2, cells := 0, slots := 0, locals := 43 }) (hX : WF dd m) (hp : PB m 1545 11) (h : fX11_isBad_132f d a1 a2 s = some x) (K : (Sum.elim (fX11_isBad_132P w l G (QM w G WF (some (mI r)) d m 0 0) m d a1 a2) (fun q => q = r)) x) : V w l WF G (QM w G WF (some (mI r)) d m 0 0) d m 0 0 132 [mA 1545, mI a1, mU, mI (s.1), mI (s.2)] [] := by
  obtain ⟨v3, v4⟩ := s
  unfold fX11_isBad_132f at h
  dsimp only at h
  refine v_iload F dX11_isBad_132 rfl ?_
  refine v_aload_n F dX11_isBad_134 rfl rfl ?_
  refine gf_X11_755 F dX11_isBad_135 hp ?_
  refine v_icmp_ge F dX11_isBad_138 rfl (fun hq23 => ?_) (fun hq23 => ?_)
  · rw [if_pos hq23] at h
    obtain ⟨z, hu, ez⟩ := up_some h
    clear h
    subst ez
    have h := hu
    clear hu
    refine v_iconst F dX11_isBad_181 ⟨by decide, by decide⟩ ?_
    cases h
    cases (show _ = r from K)
    exact v_zret F (Or.inl rfl) dX11_isBad_182
  · rw [if_neg hq23] at h
    refine v_aload_n F dX11_isBad_141 rfl rfl ?_
    refine gf_X11_780 F dX11_isBad_142 hp (v := 1618) rfl ?_
    refine v_iload_n F dX11_isBad_145 rfl rfl ?_
    refine v_iload F dX11_isBad_146 rfl ?_
    refine v_iadd F dX11_isBad_148 ?_
    obtain ⟨x24, ex24, h⟩ := lv_some h
    refine v_nI ex24 ?_
    obtain ⟨hi25, h⟩ := ck_some h
    refine v_iald F dX11_isBad_149 (ar_X11_105 hX hp) hi25 ?_
    refine v_if_ne F dX11_isBad_150 rfl (fun hq26 => ?_) (fun hq26 => ?_)
    · rw [if_neg hq26] at h
      refine v_iload_n F dX11_isBad_156 rfl rfl ?_
      refine v_if_lt F dX11_isBad_157 rfl (fun hq27 => ?_) (fun hq27 => ?_)
      · rw [if_pos hq27] at h
        refine v_iload F dX11_isBad_172 rfl ?_
        refine v_istore_n F dX11_isBad_174 rfl (Nat.le_of_ble_eq_true rfl) (L' := [mA 1545, mI a1, mU, mI v4, mI v4]) rfl ?_
        obtain ⟨x28, ex28, h⟩ := lv_some h
        refine v_iincN F dX11_isBad_175 (Nat.le_of_ble_eq_true rfl) rfl ex28 (L' := [mA 1545, mI a1, mU, mI v4, mI x28]) rfl ?_
        refine v_goto F dX11_isBad_178 rfl ?_
        cases h
        exact K
      · rw [if_neg hq27] at h
        refine v_aload_n F dX11_isBad_160 rfl rfl ?_
        refine v_iload_n F dX11_isBad_161 rfl rfl ?_
        refine v_iload F dX11_isBad_162 rfl ?_
        obtain ⟨x29, hc30, h⟩ := b1_some h
        refine v_callVv (c := 11) F dX11_isBad_164 cv_X11_795 rfl (PB.ob hp hX (Nat.le_of_ble_eq_true rfl)) (Nat.le_of_ble_eq_true rfl) rfl (vm_X11_areOneList hp hc30) rfl (rOk.of rfl) ?_
        refine v_if_ne F dX11_isBad_167 rfl (fun hq31 => ?_) (fun hq31 => ?_)
        · rw [if_neg hq31] at h
          refine v_iload F dX11_isBad_172 rfl ?_
          refine v_istore_n F dX11_isBad_174 rfl (Nat.le_of_ble_eq_true rfl) (L' := [mA 1545, mI a1, mU, mI v4, mI v4]) rfl ?_
          obtain ⟨x32, ex32, h⟩ := lv_some h
          refine v_iincN F dX11_isBad_175 (Nat.le_of_ble_eq_true rfl) rfl ex32 (L' := [mA 1545, mI a1, mU, mI v4, mI x32]) rfl ?_
          refine v_goto F dX11_isBad_178 rfl ?_
          cases h
          exact K
        · rw [if_pos hq31] at h
          obtain ⟨z, hu, ez⟩ := up_some h
          clear h
          subst ez
          have h := hu
          clear hu
          refine v_iconst F dX11_isBad_170 ⟨by decide, by decide⟩ ?_
          cases h
          cases (show _ = r from K)
          exact v_zret F (Or.inr rfl) dX11_isBad_171
    · rw [if_pos hq26] at h
      refine v_goto F dX11_isBad_153 rfl ?_
      obtain ⟨x33, ex33, h⟩ := lv_some h
      refine v_iincN F dX11_isBad_175 (Nat.le_of_ble_eq_true rfl) rfl ex33 (L' := [mA 1545, mI a1, mU, mI v3, mI x33]) rfl ?_
      refine v_goto F dX11_isBad_178 rfl ?_
      cases h
      exact K
theorem fX11_isBad_132_ok {w : Wd} {l : Launch} {G : Cx} {d m dd : Dt} {a1 a2 v3 v4 : Int} {r : Int} {x : Int} (F : Fx w G cX11_isBad RX11 5 (some .boolean) { frames := 2, cells := 0, slots := 0, locals := 43 }) (hX : WF dd m) (hp : PB m 1545 11) (h : fX11_isBad_132 d a1 a2 v3 v4 = some x) (K : (fun q => q = r) x) : V w l WF G (QM w G WF (some (mI r)) d m 0 0) d m 0 0 132 [mA 1545, mI a1, mU, mI v3, mI v4] [] := by
  unfold fX11_isBad_132 at h
  exact loop_ok (P := fX11_isBad_132P w l G (QM w G WF (some (mI r)) d m 0 0) m d a1 a2) (fun s x hx h1 h2 => fX11_isBad_132f_ok F hX hp hx (by
    cases x with
    | inl s' => exact h1 s' rfl
    | inr z => cases h2 z rfl; exact K)) h
theorem vm_X11_isBad {w : Wd} {l : Launch} {d m : Dt} {a1 a2 : Int} {r : Int} (hp : PB m 1545 11) (h : fX11_isBad d a1 a2 = some r) : VM w l WF yX11_isBad cX11_isBad 5 (some .boolean) 2 43 0 0 d m [mA 1545, mI a1, mI a2] (some (mI r)) d m := by
  obtain ⟨x, h, K⟩ : ∃ x, fX11_isBad d a1 a2 = some x ∧ x = r := ⟨_, h, rfl⟩
  refine VM.of (L := [mA 1545, mI a1, mI a2, mU, mU]) (by decide +kernel) rfl (Nat.le_of_ble_eq_true rfl) fun G F _ => v_fact fun _ hX _ _ => ?_
  unfold fX11_isBad at h
  refine v_aload_n F dX11_isBad_0 rfl rfl ?_
  refine v_aload_n F dX11_isBad_1 rfl rfl ?_
  refine gf_X11_749 F dX11_isBad_2 hp ?_
  refine v_iconst F dX11_isBad_5 ⟨by decide, by decide⟩ ?_
  obtain ⟨x1, hc2, h⟩ := b1_some h
  refine v_callVv (c := 11) F dX11_isBad_6 cv_X11_485 rfl (PB.ob hp hX (Nat.le_of_ble_eq_true rfl)) (Nat.le_of_ble_eq_true rfl) rfl (vm_X11_contestIs hp hc2) rfl (rOk.of rfl) ?_
  by_cases hq3 : x1 = 0
  · rw [if_pos hq3] at h
    refine v_tableIn F dX11_isBad_9 hq3 (by decide) (by decide) rfl rfl ?_
    refine v_iload_n F dX11_isBad_84 rfl rfl ?_
    refine v_iconst F dX11_isBad_85 ⟨by decide, by decide⟩ ?_
    refine v_icmp_le F dX11_isBad_86 rfl (fun hq4 => ?_) (fun hq4 => ?_)
    · rw [if_pos hq4] at h
      refine v_iconst F dX11_isBad_93 ⟨by decide, by decide⟩ ?_
      cases h
      cases (show _ = r from K)
      exact v_zret F (Or.inl rfl) dX11_isBad_94
    · rw [if_neg hq4] at h
      refine v_iconst F dX11_isBad_89 ⟨by decide, by decide⟩ ?_
      refine v_goto F dX11_isBad_90 rfl ?_
      cases h
      cases (show _ = r from K)
      exact v_zret F (Or.inr rfl) dX11_isBad_94
  · rw [if_neg hq3] at h
    by_cases hq5 : x1 = 1
    · rw [if_pos hq5] at h
      refine v_tableIn F dX11_isBad_9 hq5 (by decide) (by decide) rfl rfl ?_
      refine v_iload_n F dX11_isBad_95 rfl rfl ?_
      refine v_aload_n F dX11_isBad_96 rfl rfl ?_
      refine gf_X11_758 F dX11_isBad_97 hp ?_
      refine v_icmp_le F dX11_isBad_100 rfl (fun hq6 => ?_) (fun hq6 => ?_)
      · rw [if_pos hq6] at h
        refine v_iconst F dX11_isBad_107 ⟨by decide, by decide⟩ ?_
        cases h
        cases (show _ = r from K)
        exact v_zret F (Or.inl rfl) dX11_isBad_108
      · rw [if_neg hq6] at h
        refine v_iconst F dX11_isBad_103 ⟨by decide, by decide⟩ ?_
        refine v_goto F dX11_isBad_104 rfl ?_
        cases h
        cases (show _ = r from K)
        exact v_zret F (Or.inr rfl) dX11_isBad_108
    · rw [if_neg hq5] at h
      by_cases hq7 : x1 = 2
      · rw [if_pos hq7] at h
        refine v_tableIn F dX11_isBad_9 hq7 (by decide) (by decide) rfl rfl ?_
        refine v_iconst F dX11_isBad_183 ⟨by decide, by decide⟩ ?_
        cases h
        cases (show _ = r from K)
        exact v_zret F (Or.inl rfl) dX11_isBad_184
      · rw [if_neg hq7] at h
        by_cases hq8 : x1 = 3
        · rw [if_pos hq8] at h
          refine v_tableIn F dX11_isBad_9 hq8 (by decide) (by decide) rfl rfl ?_
          refine v_iconst F dX11_isBad_183 ⟨by decide, by decide⟩ ?_
          cases h
          cases (show _ = r from K)
          exact v_zret F (Or.inl rfl) dX11_isBad_184
        · rw [if_neg hq8] at h
          by_cases hq9 : x1 = 4
          · rw [if_pos hq9] at h
            refine v_tableIn F dX11_isBad_9 hq9 (by decide) (by decide) rfl rfl ?_
            refine v_iconst F dX11_isBad_183 ⟨by decide, by decide⟩ ?_
            cases h
            cases (show _ = r from K)
            exact v_zret F (Or.inl rfl) dX11_isBad_184
          · rw [if_neg hq9] at h
            by_cases hq10 : x1 = 5
            · rw [if_pos hq10] at h
              refine v_tableIn F dX11_isBad_9 hq10 (by decide) (by decide) rfl rfl ?_
              refine v_fgt (L' := [mA 1545, mU, mU, mU, mU]) ⟨Or.inl rfl, Or.inr rfl, Or.inr rfl, Or.inl rfl, Or.inl rfl, trivial⟩ ?_
              exact fX11_isBad_109_ok F hX hp h K
            · rw [if_neg hq10] at h
              by_cases hq14 : x1 = 6
              · rw [if_pos hq14] at h
                refine v_tableIn F dX11_isBad_9 hq14 (by decide) (by decide) rfl rfl ?_
                refine v_fgt (L' := [mA 1545, mU, mU, mU, mU]) ⟨Or.inl rfl, Or.inr rfl, Or.inr rfl, Or.inl rfl, Or.inl rfl, trivial⟩ ?_
                exact fX11_isBad_109_ok F hX hp h K
              · rw [if_neg hq14] at h
                by_cases hq15 : x1 = 7
                · rw [if_pos hq15] at h
                  refine v_tableIn F dX11_isBad_9 hq15 (by decide) (by decide) rfl rfl ?_
                  refine v_iconst F dX11_isBad_183 ⟨by decide, by decide⟩ ?_
                  cases h
                  cases (show _ = r from K)
                  exact v_zret F (Or.inl rfl) dX11_isBad_184
                · rw [if_neg hq15] at h
                  by_cases hq16 : x1 = 8
                  · rw [if_pos hq16] at h
                    refine v_tableIn F dX11_isBad_9 hq16 (by decide) (by decide) rfl rfl ?_
                    refine v_iconst F dX11_isBad_183 ⟨by decide, by decide⟩ ?_
                    cases h
                    cases (show _ = r from K)
                    exact v_zret F (Or.inl rfl) dX11_isBad_184
                  · rw [if_neg hq16] at h
                    by_cases hq17 : x1 = 9
                    · rw [if_pos hq17] at h
                      refine v_tableIn F dX11_isBad_9 hq17 (by decide) (by decide) rfl rfl ?_
                      refine v_iconst F dX11_isBad_183 ⟨by decide, by decide⟩ ?_
                      cases h
                      cases (show _ = r from K)
                      exact v_zret F (Or.inl rfl) dX11_isBad_184
                    · rw [if_neg hq17] at h
                      by_cases hq18 : x1 = 10
                      · rw [if_pos hq18] at h
                        refine v_tableIn F dX11_isBad_9 hq18 (by decide) (by decide) rfl rfl ?_
                        refine v_iconst F dX11_isBad_183 ⟨by decide, by decide⟩ ?_
                        cases h
                        cases (show _ = r from K)
                        exact v_zret F (Or.inl rfl) dX11_isBad_184
                      · rw [if_neg hq18] at h
                        by_cases hq19 : x1 = 11
                        · rw [if_pos hq19] at h
                          refine v_tableIn F dX11_isBad_9 hq19 (by decide) (by decide) rfl rfl ?_
                          refine v_fgt (L' := [mA 1545, mU, mU, mU, mU]) ⟨Or.inl rfl, Or.inr rfl, Or.inr rfl, Or.inl rfl, Or.inl rfl, trivial⟩ ?_
                          exact fX11_isBad_109_ok F hX hp h K
                        · rw [if_neg hq19] at h
                          by_cases hq20 : x1 = 12
                          · rw [if_pos hq20] at h
                            refine v_tableIn F dX11_isBad_9 hq20 (by decide) (by decide) rfl rfl ?_
                            refine v_fgt (L' := [mA 1545, mU, mU, mU, mU]) ⟨Or.inl rfl, Or.inr rfl, Or.inr rfl, Or.inl rfl, Or.inl rfl, trivial⟩ ?_
                            exact fX11_isBad_109_ok F hX hp h K
                          · rw [if_neg hq20] at h
                            by_cases hq21 : x1 = 13
                            · rw [if_pos hq21] at h
                              refine v_tableIn F dX11_isBad_9 hq21 (by decide) (by decide) rfl rfl ?_
                              refine v_fgt (L' := [mA 1545, mU, mU, mU, mU]) ⟨Or.inl rfl, Or.inr rfl, Or.inr rfl, Or.inl rfl, Or.inl rfl, trivial⟩ ?_
                              exact fX11_isBad_109_ok F hX hp h K
                            · rw [if_neg hq21] at h
                              by_cases hq22 : x1 = 14
                              · rw [if_pos hq22] at h
                                refine v_tableIn F dX11_isBad_9 hq22 (by decide) (by decide) rfl rfl ?_
                                refine v_iconst F dX11_isBad_127 ⟨by decide, by decide⟩ ?_
                                refine v_istore_n F dX11_isBad_128 rfl (Nat.le_of_ble_eq_true rfl) (L' := [mA 1545, mI a1, mI a2, mI (-1), mU]) rfl ?_
                                refine v_iconst F dX11_isBad_129 ⟨by decide, by decide⟩ ?_
                                refine v_istore F dX11_isBad_130 (Nat.le_of_ble_eq_true rfl) (L' := [mA 1545, mI a1, mI a2, mI (-1), mI 0]) rfl ?_
                                refine v_fgt (L' := [mA 1545, mI a1, mU, mI (-1), mI 0]) ⟨Or.inl rfl, Or.inl rfl, Or.inr rfl, Or.inl rfl, Or.inl rfl, trivial⟩ ?_
                                exact fX11_isBad_132_ok F hX hp h K
                              · rw [if_neg hq22] at h
                                refine v_tableOut F dX11_isBad_9 (by omega) rfl ?_
                                refine v_iconst F dX11_isBad_183 ⟨by decide, by decide⟩ ?_
                                cases h
                                cases (show _ = r from K)
                                exact v_zret F (Or.inl rfl) dX11_isBad_184
def fX11_lay_14P (w : Wd) (l : Launch) (G : Cx) (Q : State → Prop) (m : Dt) (a1 a2 v3 : Int) (s : Dt × Int × Int) : Prop := V w l WF G Q s.1 m 0 0 14 [mA 1545, mA a1, mI a2, mI v3, mI (s.2.1), mI (s.2.2)] []
theorem fX11_lay_71_ok {w : Wd} {l : Launch} {G : Cx} {d m dd : Dt} {a1 a2 v3 v5 s0 s1 : Int} {d' : Dt} {x : ((Dt × Int × Int) ⊕ Dt)} (F : Fx w G cX11_lay RX11 6 none { frames := 3, cells := 0, slots := 0, locals := 67 }) (hX : WF dd m) (hp : PB m 1545 11) (hp1 : AR m a1 102 10800) (h : fX11_lay_71 d a1 a2 v3 v5 s0 s1 = some x) (K : (Sum.elim (fX11_lay_14P w l G (QM w G WF none d' m 0 0) m a1 a2 v3) (fun q => q = d')) x) : V w l WF G (QM w G WF none d' m 0 0) d m 0 0 71 [mA 1545, mA a1, mI a2, mI v3, mU, mI v5] [mI s1, mI s0] := by
  unfold fX11_lay_71 at h
  refine v_iadd F dX11_lay_71 ?_
  obtain ⟨x19, ex19, h⟩ := lv_some h
  refine v_nI ex19 ?_
  refine v_istore F dX11_lay_72 (Nat.le_of_ble_eq_true rfl) (L' := [mA 1545, mA a1, mI a2, mI v3, mI x19, mI v5]) rfl ?_
  obtain ⟨x20, ex20, h⟩ := lv_some h
  refine v_iincN F dX11_lay_74 (Nat.le_of_ble_eq_true rfl) rfl ex20 (L' := [mA 1545, mA a1, mI a2, mI v3, mI x19, mI x20]) rfl ?_
  refine v_goto F dX11_lay_77 rfl ?_
  cases h
  exact K
theorem fX11_lay_51_ok {w : Wd} {l : Launch} {G : Cx} {d m dd : Dt} {a1 a2 v3 v4 v5 s1 s2 : Int} {d' : Dt} {x : ((Dt × Int × Int) ⊕ Dt)} (F : Fx w G cX11_lay RX11 6 none { frames := 3, cells := 0, slots := 0, locals := 67 }) (hX : WF dd m) (hp : PB m 1545 11) (hp1 : AR m a1 102 10800) (h : fX11_lay_51 d a1 a2 v3 v4 v5 s1 s2 = some x) (K : (Sum.elim (fX11_lay_14P w l G (QM w G WF none d' m 0 0) m a1 a2 v3) (fun q => q = d')) x) : V w l WF G (QM w G WF none d' m 0 0) d m 0 0 51 [mA 1545, mA a1, mI a2, mI v3, mI v4, mI v5] [mI s2, mI s1, mA 1618] := by
  unfold fX11_lay_51 at h
  obtain ⟨hi14, h⟩ := ck_some h
  obtain ⟨d15, ed15, h⟩ := sd_some h
  refine v_iast F dX11_lay_51 (ar_X11_105 hX hp) hi14 ?_
  refine v_nD ed15 ?_
  refine v_iload F dX11_lay_52 rfl ?_
  refine v_aload_n F dX11_lay_54 rfl rfl ?_
  refine gf_X11_780 F dX11_lay_55 hp (v := 1618) rfl ?_
  refine v_iload_n F dX11_lay_58 rfl rfl ?_
  refine v_iload F dX11_lay_59 rfl ?_
  refine v_iadd F dX11_lay_61 ?_
  obtain ⟨x16, ex16, h⟩ := lv_some h
  refine v_nI ex16 ?_
  obtain ⟨hi17, h⟩ := ck_some h
  refine v_iald F dX11_lay_62 (ar_X11_105 hX hp) hi17 ?_
  refine v_if_le F dX11_lay_63 rfl (fun hq18 => ?_) (fun hq18 => ?_)
  · rw [if_pos hq18] at h
    refine v_iconst F dX11_lay_70 ⟨by decide, by decide⟩ ?_
    refine v_fgt (L' := [mA 1545, mA a1, mI a2, mI v3, mU, mI v5]) ⟨Or.inl rfl, Or.inl rfl, Or.inl rfl, Or.inl rfl, Or.inr rfl, Or.inl rfl, trivial⟩ ?_
    exact fX11_lay_71_ok F hX hp hp1 h K
  · rw [if_neg hq18] at h
    refine v_iconst F dX11_lay_66 ⟨by decide, by decide⟩ ?_
    refine v_goto F dX11_lay_67 rfl ?_
    refine v_fgt (L' := [mA 1545, mA a1, mI a2, mI v3, mU, mI v5]) ⟨Or.inl rfl, Or.inl rfl, Or.inl rfl, Or.inl rfl, Or.inr rfl, Or.inl rfl, trivial⟩ ?_
    exact fX11_lay_71_ok F hX hp hp1 h K
theorem fX11_lay_14f_ok {w : Wd} {l : Launch} {G : Cx} {m dd : Dt} {a1 a2 v3 : Int} {d' : Dt} {s : Dt × Int × Int} {x : ((Dt × Int × Int) ⊕ Dt)} (F : Fx w G cX11_lay RX11 6 none { frames := 3, cells := 0, slots := 0, locals := 67 }) (hX : WF dd m) (hp : PB m 1545 11) (hp1 : AR m a1 102 10800) (h : fX11_lay_14f a1 a2 v3 s = some x) (K : (Sum.elim (fX11_lay_14P w l G (QM w G WF none d' m 0 0) m a1 a2 v3) (fun q => q = d')) x) : V w l WF G (QM w G WF none d' m 0 0) s.1 m 0 0 14 [mA 1545, mA a1, mI a2, mI v3, mI (s.2.1), mI (s.2.2)] [] := by
  obtain ⟨d, v4, v5⟩ := s
  unfold fX11_lay_14f at h
  dsimp only at h
  refine v_iload F dX11_lay_14 rfl ?_
  refine v_aload_n F dX11_lay_16 rfl rfl ?_
  refine gf_X11_755 F dX11_lay_17 hp ?_
  refine v_icmp_ge F dX11_lay_20 rfl (fun hq2 => ?_) (fun hq2 => ?_)
  · rw [if_pos hq2] at h
    obtain ⟨z, hu, ez⟩ := up_some h
    clear h
    subst ez
    have h := hu
    clear hu
    refine v_aload_n F dX11_lay_80 rfl rfl ?_
    refine v_aload_n F dX11_lay_81 rfl rfl ?_
    refine gf_X11_767 F dX11_lay_82 hp ?_
    obtain ⟨d3, hc4, h⟩ := bd_some h
    refine v_callV0 (c := 11) F dX11_lay_85 cv_X11_783 rfl (PB.ob hp hX (Nat.le_of_ble_eq_true rfl)) (Nat.le_of_ble_eq_true rfl) rfl (vm_X11_rank hp hc4) rfl (rOk.of rfl) ?_
    refine v_iload F dX11_lay_88 rfl ?_
    refine v_if_ne F dX11_lay_90 rfl (fun hq5 => ?_) (fun hq5 => ?_)
    · rw [if_neg hq5] at h
      refine v_aload_n F dX11_lay_106 rfl rfl ?_
      refine v_iload_n F dX11_lay_107 rfl rfl ?_
      refine v_iload F dX11_lay_108 rfl ?_
      obtain ⟨x6, hc7, h⟩ := b1_some h
      refine v_callVv (c := 11) F dX11_lay_110 cv_X11_786 rfl (PB.ob hp hX (Nat.le_of_ble_eq_true rfl)) (Nat.le_of_ble_eq_true rfl) rfl (vm_X11_isBad hp hc7) rfl (rOk.of rfl) ?_
      refine v_if_eq F dX11_lay_113 rfl (fun hq8 => ?_) (fun hq8 => ?_)
      · rw [if_pos hq8] at h
        refine v_aload_n F dX11_lay_129 rfl rfl ?_
        refine v_dup_A F dX11_lay_130 ?_
        refine gf_X11_767 F dX11_lay_131 hp ?_
        refine v_iconst F dX11_lay_134 ⟨by decide, by decide⟩ ?_
        refine v_iadd F dX11_lay_135 ?_
        obtain ⟨d9, ed9, h⟩ := sd_some h
        refine pf_X11_767 F dX11_lay_136 hp ?_
        refine v_nD ed9 ?_
        cases h
        cases (show _ = d' from K)
        exact v_vret F dX11_lay_139
      · rw [if_neg hq8] at h
        refine v_aload_n F dX11_lay_116 rfl rfl ?_
        refine v_dup_A F dX11_lay_117 ?_
        refine gf_X11_773 F dX11_lay_118 hp ?_
        refine v_iconst F dX11_lay_121 ⟨by decide, by decide⟩ ?_
        refine v_iadd F dX11_lay_122 ?_
        obtain ⟨d10, ed10, h⟩ := sd_some h
        refine pf_X11_773 F dX11_lay_123 hp ?_
        refine v_nD ed10 ?_
        refine v_goto F dX11_lay_126 rfl ?_
        cases h
        cases (show _ = d' from K)
        exact v_vret F dX11_lay_139
    · rw [if_pos hq5] at h
      refine v_aload_n F dX11_lay_93 rfl rfl ?_
      refine v_dup_A F dX11_lay_94 ?_
      refine gf_X11_770 F dX11_lay_95 hp ?_
      refine v_iconst F dX11_lay_98 ⟨by decide, by decide⟩ ?_
      refine v_iadd F dX11_lay_99 ?_
      obtain ⟨d11, ed11, h⟩ := sd_some h
      refine pf_X11_770 F dX11_lay_100 hp ?_
      refine v_nD ed11 ?_
      refine v_goto F dX11_lay_103 rfl ?_
      cases h
      cases (show _ = d' from K)
      exact v_vret F dX11_lay_139
  · rw [if_neg hq2] at h
    refine v_aload_n F dX11_lay_23 rfl rfl ?_
    refine gf_X11_780 F dX11_lay_24 hp (v := 1618) rfl ?_
    refine v_iload_n F dX11_lay_27 rfl rfl ?_
    refine v_iload F dX11_lay_28 rfl ?_
    refine v_iadd F dX11_lay_30 ?_
    refine v_aload_n F dX11_lay_31 rfl rfl ?_
    refine gf_X11_764 F dX11_lay_32 hp (v := 1617) rfl ?_
    refine v_iload F dX11_lay_35 rfl ?_
    obtain ⟨hi12, h⟩ := ck_some h
    refine v_zald F dX11_lay_37 (ar_X11_101 hX hp) hi12 ?_
    refine v_if_eq F dX11_lay_38 rfl (fun hq13 => ?_) (fun hq13 => ?_)
    · rw [if_pos hq13] at h
      refine v_iconst F dX11_lay_50 ⟨by decide, by decide⟩ ?_
      exact fX11_lay_51_ok F hX hp hp1 h K
    · rw [if_neg hq13] at h
      refine v_aload_n F dX11_lay_41 rfl rfl ?_
      refine v_iload_n F dX11_lay_42 rfl rfl ?_
      refine v_iload F dX11_lay_43 rfl ?_
      refine v_iadd F dX11_lay_45 ?_
      obtain ⟨x21, ex21, h⟩ := lv_some h
      refine v_nI ex21 ?_
      obtain ⟨hi22, h⟩ := ck_some h
      refine v_bald F dX11_lay_46 hp1 hi22 ?_
      refine v_goto F dX11_lay_47 rfl ?_
      exact fX11_lay_51_ok F hX hp hp1 h K
theorem fX11_lay_14_ok {w : Wd} {l : Launch} {G : Cx} {d m dd : Dt} {a1 a2 v3 v4 v5 : Int} {d' : Dt} {x : Dt} (F : Fx w G cX11_lay RX11 6 none { frames := 3, cells := 0, slots := 0, locals := 67 }) (hX : WF dd m) (hp : PB m 1545 11) (hp1 : AR m a1 102 10800) (h : fX11_lay_14 d a1 a2 v3 v4 v5 = some x) (K : (fun q => q = d') x) : V w l WF G (QM w G WF none d' m 0 0) d m 0 0 14 [mA 1545, mA a1, mI a2, mI v3, mI v4, mI v5] [] := by
  unfold fX11_lay_14 at h
  exact loop_ok (P := fX11_lay_14P w l G (QM w G WF none d' m 0 0) m a1 a2 v3) (fun s x hx h1 h2 => fX11_lay_14f_ok F hX hp hp1 hx (by
    cases x with
    | inl s' => exact h1 s' rfl
    | inr z => cases h2 z rfl; exact K)) h
theorem vm_X11_lay {w : Wd} {l : Launch} {d m : Dt} {a1 a2 : Int} {d' : Dt} (hp : PB m 1545 11) (hp1 : AR m a1 102 10800) (h : fX11_lay d a1 a2 = some d') : VM w l WF yX11_lay cX11_lay 6 none 3 67 0 0 d m [mA 1545, mA a1, mI a2] none d' m := by
  obtain ⟨x, h, K⟩ : ∃ x, fX11_lay d a1 a2 = some x ∧ x = d' := ⟨_, h, rfl⟩
  refine VM.of (L := [mA 1545, mA a1, mI a2, mU, mU, mU]) (by decide +kernel) rfl (Nat.le_of_ble_eq_true rfl) fun G F _ => v_fact fun _ hX _ _ => ?_
  unfold fX11_lay at h
  refine v_bipush F dX11_lay_0 rfl ⟨by decide, by decide⟩ ?_
  refine v_aload_n F dX11_lay_2 rfl rfl ?_
  refine gf_X11_767 F dX11_lay_3 hp ?_
  refine v_imul F dX11_lay_6 ?_
  obtain ⟨x1, ex1, h⟩ := lv_some h
  refine v_nI ex1 ?_
  refine v_istore_n F dX11_lay_7 rfl (Nat.le_of_ble_eq_true rfl) (L' := [mA 1545, mA a1, mI a2, mI x1, mU, mU]) rfl ?_
  refine v_iconst F dX11_lay_8 ⟨by decide, by decide⟩ ?_
  refine v_istore F dX11_lay_9 (Nat.le_of_ble_eq_true rfl) (L' := [mA 1545, mA a1, mI a2, mI x1, mI 0, mU]) rfl ?_
  refine v_iconst F dX11_lay_11 ⟨by decide, by decide⟩ ?_
  refine v_istore F dX11_lay_12 (Nat.le_of_ble_eq_true rfl) (L' := [mA 1545, mA a1, mI a2, mI x1, mI 0, mI 0]) rfl ?_
  exact fX11_lay_14_ok F hX hp hp1 h K
def fX11_gather_41P (w : Wd) (l : Launch) (G : Cx) (Q : State → Prop) (m : Dt) (a1 a2 : Int) (s : Dt × Int) : Prop := V w l WF G Q s.1 m 0 0 41 [mA 1545, mI a1, mI a2, mI (s.2), mU, mU] []
def fX11_gather_97P (w : Wd) (l : Launch) (G : Cx) (Q : State → Prop) (m : Dt) (a1 a2 : Int) (s : Dt × Int) : Prop := V w l WF G Q s.1 m 0 0 97 [mA 1545, mI a1, mI a2, mI (s.2), mU, mU] []
def fX11_gather_106P (w : Wd) (l : Launch) (G : Cx) (Q : State → Prop) (m : Dt) (a1 a2 v3 : Int) (s : Dt × Int) : Prop := V w l WF G Q s.1 m 0 0 106 [mA 1545, mI a1, mI a2, mI v3, mI (s.2), mU] []
theorem fX11_gather_174_ok {w : Wd} {l : Launch} {G : Cx} {d m dd : Dt} {a1 a2 v3 v4 v5 s1 : Int} {d' : Dt} {x : ((Dt × Int) ⊕ ((Dt × Int) ⊕ Dt))} (F : Fx w G cX11_gather RX11 6 none { frames := 4, cells := 0, slots := 0, locals := 92 }) (hX : WF dd m) (hp : PB m 1545 11) (hs1 : AR m s1 102 10800) (h : fX11_gather_174 d a1 a2 v3 v4 v5 s1 = some x) (K : (Sum.elim (fX11_gather_106P w l G (QM w G WF none d' m 0 0) m a1 a2 v3) (Sum.elim (fX11_gather_97P w l G (QM w G WF none d' m 0 0) m a1 a2) (fun q => q = d'))) x) : V w l WF G (QM w G WF none d' m 0 0) d m 0 0 174 [mA 1545, mI a1, mI a2, mI v3, mI v4, mI v5] [mA s1, mA 1545] := by
  unfold fX11_gather_174 at h
  refine v_bipush F dX11_gather_174 rfl ⟨by decide, by decide⟩ ?_
  refine v_iload F dX11_gather_176 rfl ?_
  refine v_imul F dX11_gather_178 ?_
  refine v_aload_n F dX11_gather_179 rfl rfl ?_
  refine v_aload_n F dX11_gather_180 rfl rfl ?_
  refine gf_X11_697 F dX11_gather_181 hp (v := 1608) rfl ?_
  refine v_iload F dX11_gather_184 rfl ?_
  obtain ⟨hi26, h⟩ := ck_some h
  refine v_iald F dX11_gather_186 (ar_X11_88 hX hp) hi26 ?_
  refine v_iconst F dX11_gather_187 ⟨by decide, by decide⟩ ?_
  refine v_iload_n F dX11_gather_188 rfl rfl ?_
  refine v_ishl F dX11_gather_189 ?_
  refine v_iconst F dX11_gather_190 ⟨by decide, by decide⟩ ?_
  refine v_isub F dX11_gather_191 ?_
  refine v_iand F dX11_gather_192 ?_
  obtain ⟨x27, hc28, h⟩ := b1_some h
  refine v_callVv (c := 11) F dX11_gather_193 cv_X11_719 rfl (PB.ob hp hX (Nat.le_of_ble_eq_true rfl)) (Nat.le_of_ble_eq_true rfl) rfl (vm_X11_marksOf hp hc28) rfl (rOk.of rfl) ?_
  refine v_iadd F dX11_gather_196 ?_
  obtain ⟨d29, hc30, h⟩ := bd_some h
  refine v_callV0 (c := 11) F dX11_gather_197 cv_X11_776 rfl (PB.ob hp hX (Nat.le_of_ble_eq_true rfl)) (Nat.le_of_ble_eq_true rfl) rfl (vm_X11_lay hp hs1 hc30) rfl (rOk.of rfl) ?_
  obtain ⟨x31, ex31, h⟩ := lv_some h
  refine v_iincN F dX11_gather_200 (Nat.le_of_ble_eq_true rfl) rfl ex31 (L' := [mA 1545, mI a1, mI a2, mI v3, mI x31, mI v5]) rfl ?_
  refine v_goto F dX11_gather_203 rfl ?_
  cases h
  refine v_fgt (L' := [mA 1545, mI a1, mI a2, mI v3, mI x31, mU]) ⟨Or.inl rfl, Or.inl rfl, Or.inl rfl, Or.inl rfl, Or.inl rfl, Or.inr rfl, trivial⟩ ?_
  exact K
theorem fX11_gather_106f_ok {w : Wd} {l : Launch} {G : Cx} {m dd : Dt} {a1 a2 v3 : Int} {d' : Dt} {s : Dt × Int} {x : ((Dt × Int) ⊕ ((Dt × Int) ⊕ Dt))} (F : Fx w G cX11_gather RX11 6 none { frames := 4, cells := 0, slots := 0, locals := 92 }) (hX : WF dd m) (hp : PB m 1545 11) (h : fX11_gather_106f a1 a2 v3 s = some x) (K : (Sum.elim (fX11_gather_106P w l G (QM w G WF none d' m 0 0) m a1 a2 v3) (Sum.elim (fX11_gather_97P w l G (QM w G WF none d' m 0 0) m a1 a2) (fun q => q = d'))) x) : V w l WF G (QM w G WF none d' m 0 0) s.1 m 0 0 106 [mA 1545, mI a1, mI a2, mI v3, mI (s.2), mU] [] := by
  obtain ⟨d, v4⟩ := s
  unfold fX11_gather_106f at h
  dsimp only at h
  refine v_iload F dX11_gather_106 rfl ?_
  refine v_aload_n F dX11_gather_108 rfl rfl ?_
  refine gf_X11_549 F dX11_gather_109 hp (v := 1613) rfl ?_
  refine v_iload_n F dX11_gather_112 rfl rfl ?_
  obtain ⟨hi15, h⟩ := ck_some h
  refine v_iald F dX11_gather_113 (ar_X11_93 hX hp) hi15 ?_
  refine v_icmp_ge F dX11_gather_114 rfl (fun hq16 => ?_) (fun hq16 => ?_)
  · rw [if_pos hq16] at h
    obtain ⟨z, hu, ez⟩ := up_some h
    clear h
    subst ez
    have h := hu
    clear hu
    obtain ⟨x17, ex17, h⟩ := lv_some h
    refine v_iincN F dX11_gather_206 (Nat.le_of_ble_eq_true rfl) rfl ex17 (L' := [mA 1545, mI a1, mI a2, mI x17, mI v4, mU]) rfl ?_
    refine v_goto F dX11_gather_209 rfl ?_
    cases h
    refine v_fgt (L' := [mA 1545, mI a1, mI a2, mI x17, mU, mU]) ⟨Or.inl rfl, Or.inl rfl, Or.inl rfl, Or.inl rfl, Or.inr rfl, Or.inl rfl, trivial⟩ ?_
    exact K
  · rw [if_neg hq16] at h
    refine v_aload_n F dX11_gather_117 rfl rfl ?_
    refine gf_X11_555 F dX11_gather_118 hp (v := 1616) rfl ?_
    refine v_iload_n F dX11_gather_121 rfl rfl ?_
    refine v_zald F dX11_gather_122 (ar_X11_96 hX hp) hi15 ?_
    refine v_if_ne F dX11_gather_123 rfl (fun hq18 => ?_) (fun hq18 => ?_)
    · rw [if_neg hq18] at h
      obtain ⟨z, hu, ez⟩ := up_some h
      clear h
      subst ez
      have h := hu
      clear hu
      obtain ⟨x19, ex19, h⟩ := lv_some h
      refine v_iincN F dX11_gather_206 (Nat.le_of_ble_eq_true rfl) rfl ex19 (L' := [mA 1545, mI a1, mI a2, mI x19, mI v4, mU]) rfl ?_
      refine v_goto F dX11_gather_209 rfl ?_
      cases h
      refine v_fgt (L' := [mA 1545, mI a1, mI a2, mI x19, mU, mU]) ⟨Or.inl rfl, Or.inl rfl, Or.inl rfl, Or.inl rfl, Or.inr rfl, Or.inl rfl, trivial⟩ ?_
      exact K
    · rw [if_pos hq18] at h
      refine v_aload_n F dX11_gather_126 rfl rfl ?_
      refine gf_X11_740 F dX11_gather_127 hp (v := 1614) rfl ?_
      refine v_sipush F dX11_gather_130 rfl ⟨by decide, by decide⟩ ?_
      refine v_iload_n F dX11_gather_133 rfl rfl ?_
      refine v_imul F dX11_gather_134 ?_
      refine v_iload F dX11_gather_135 rfl ?_
      refine v_iadd F dX11_gather_137 ?_
      obtain ⟨x20, ex20, h⟩ := lv_some h
      refine v_nI ex20 ?_
      obtain ⟨hi21, h⟩ := ck_some h
      refine v_iald F dX11_gather_138 (ar_X11_94 hX hp) hi21 ?_
      obtain ⟨x22, ex22, h⟩ := lv_some h
      refine v_nI ex22 ?_
      refine v_istore F dX11_gather_139 (Nat.le_of_ble_eq_true rfl) (L' := [mA 1545, mI a1, mI a2, mI v3, mI v4, mI x22]) rfl ?_
      refine v_aload_n F dX11_gather_141 rfl rfl ?_
      refine gf_X11_697 F dX11_gather_142 hp (v := 1608) rfl ?_
      refine v_iload F dX11_gather_145 rfl ?_
      obtain ⟨hi23, h⟩ := ck_some h
      refine v_iald F dX11_gather_147 (ar_X11_88 hX hp) hi23 ?_
      refine v_iload_n F dX11_gather_148 rfl rfl ?_
      refine v_ishr F dX11_gather_149 ?_
      refine v_iconst F dX11_gather_150 ⟨by decide, by decide⟩ ?_
      refine v_iand F dX11_gather_151 ?_
      refine v_if_ne F dX11_gather_152 rfl (fun hq24 => ?_) (fun hq24 => ?_)
      · rw [if_neg hq24] at h
        refine v_aload_n F dX11_gather_158 rfl rfl ?_
        refine v_iload_n F dX11_gather_159 rfl rfl ?_
        refine v_if_eq F dX11_gather_160 rfl (fun hq25 => ?_) (fun hq25 => ?_)
        · rw [if_pos hq25] at h
          refine v_aload_n F dX11_gather_170 rfl rfl ?_
          refine gf_X11_725 F dX11_gather_171 hp (v := 1611) rfl ?_
          exact fX11_gather_174_ok F hX hp (ar_X11_91 hX hp) h K
        · rw [if_neg hq25] at h
          refine v_aload_n F dX11_gather_163 rfl rfl ?_
          refine gf_X11_722 F dX11_gather_164 hp (v := 1610) rfl ?_
          refine v_goto F dX11_gather_167 rfl ?_
          exact fX11_gather_174_ok F hX hp (ar_X11_90 hX hp) h K
      · rw [if_pos hq24] at h
        refine v_goto F dX11_gather_155 rfl ?_
        obtain ⟨x32, ex32, h⟩ := lv_some h
        refine v_iincN F dX11_gather_200 (Nat.le_of_ble_eq_true rfl) rfl ex32 (L' := [mA 1545, mI a1, mI a2, mI v3, mI x32, mI x22]) rfl ?_
        refine v_goto F dX11_gather_203 rfl ?_
        cases h
        refine v_fgt (L' := [mA 1545, mI a1, mI a2, mI v3, mI x32, mU]) ⟨Or.inl rfl, Or.inl rfl, Or.inl rfl, Or.inl rfl, Or.inl rfl, Or.inr rfl, trivial⟩ ?_
        exact K
theorem fX11_gather_106_ok {w : Wd} {l : Launch} {G : Cx} {d m dd : Dt} {a1 a2 v3 v4 : Int} {d' : Dt} {x : ((Dt × Int) ⊕ Dt)} (F : Fx w G cX11_gather RX11 6 none { frames := 4, cells := 0, slots := 0, locals := 92 }) (hX : WF dd m) (hp : PB m 1545 11) (h : fX11_gather_106 d a1 a2 v3 v4 = some x) (K : (Sum.elim (fX11_gather_97P w l G (QM w G WF none d' m 0 0) m a1 a2) (fun q => q = d')) x) : V w l WF G (QM w G WF none d' m 0 0) d m 0 0 106 [mA 1545, mI a1, mI a2, mI v3, mI v4, mU] [] := by
  unfold fX11_gather_106 at h
  exact loop_ok (P := fX11_gather_106P w l G (QM w G WF none d' m 0 0) m a1 a2 v3) (fun s x hx h1 h2 => fX11_gather_106f_ok F hX hp hx (by
    cases x with
    | inl s' => exact h1 s' rfl
    | inr z => cases h2 z rfl; exact K)) h
theorem fX11_gather_97f_ok {w : Wd} {l : Launch} {G : Cx} {m dd : Dt} {a1 a2 : Int} {d' : Dt} {s : Dt × Int} {x : ((Dt × Int) ⊕ Dt)} (F : Fx w G cX11_gather RX11 6 none { frames := 4, cells := 0, slots := 0, locals := 92 }) (hX : WF dd m) (hp : PB m 1545 11) (h : fX11_gather_97f a1 a2 s = some x) (K : (Sum.elim (fX11_gather_97P w l G (QM w G WF none d' m 0 0) m a1 a2) (fun q => q = d')) x) : V w l WF G (QM w G WF none d' m 0 0) s.1 m 0 0 97 [mA 1545, mI a1, mI a2, mI (s.2), mU, mU] [] := by
  obtain ⟨d, v3⟩ := s
  unfold fX11_gather_97f at h
  dsimp only at h
  refine v_iload_n F dX11_gather_97 rfl rfl ?_
  refine v_bipush F dX11_gather_98 rfl ⟨by decide, by decide⟩ ?_
  refine v_icmp_ge F dX11_gather_100 rfl (fun hq14 => ?_) (fun hq14 => ?_)
  · rw [if_pos hq14] at h
    obtain ⟨z, hu, ez⟩ := up_some h
    clear h
    subst ez
    have h := hu
    clear hu
    cases h
    cases (show _ = d' from K)
    exact v_vret F dX11_gather_212
  · rw [if_neg hq14] at h
    refine v_iconst F dX11_gather_103 ⟨by decide, by decide⟩ ?_
    refine v_istore F dX11_gather_104 (Nat.le_of_ble_eq_true rfl) (L' := [mA 1545, mI a1, mI a2, mI v3, mI 0, mU]) rfl ?_
    exact fX11_gather_106_ok F hX hp h K
theorem fX11_gather_97_ok {w : Wd} {l : Launch} {G : Cx} {d m dd : Dt} {a1 a2 v3 : Int} {d' : Dt} {x : Dt} (F : Fx w G cX11_gather RX11 6 none { frames := 4, cells := 0, slots := 0, locals := 92 }) (hX : WF dd m) (hp : PB m 1545 11) (h : fX11_gather_97 d a1 a2 v3 = some x) (K : (fun q => q = d') x) : V w l WF G (QM w G WF none d' m 0 0) d m 0 0 97 [mA 1545, mI a1, mI a2, mI v3, mU, mU] [] := by
  unfold fX11_gather_97 at h
  exact loop_ok (P := fX11_gather_97P w l G (QM w G WF none d' m 0 0) m a1 a2) (fun s x hx h1 h2 => fX11_gather_97f_ok F hX hp hx (by
    cases x with
    | inl s' => exact h1 s' rfl
    | inr z => cases h2 z rfl; exact K)) h
theorem fX11_gather_73_ok {w : Wd} {l : Launch} {G : Cx} {d m dd : Dt} {a1 a2 v3 s1 s2 : Int} {d' : Dt} {x : ((Dt × Int) ⊕ Dt)} (F : Fx w G cX11_gather RX11 6 none { frames := 4, cells := 0, slots := 0, locals := 92 }) (hX : WF dd m) (hp : PB m 1545 11) (h : fX11_gather_73 d a1 a2 v3 s1 s2 = some x) (K : (Sum.elim (fX11_gather_41P w l G (QM w G WF none d' m 0 0) m a1 a2) (fun q => q = d')) x) : V w l WF G (QM w G WF none d' m 0 0) d m 0 0 73 [mA 1545, mI a1, mI a2, mI v3, mU, mU] [mI s2, mI s1, mA 1617] := by
  unfold fX11_gather_73 at h
  obtain ⟨hi36, h⟩ := ck_some h
  obtain ⟨d37, ed37, h⟩ := sd_some h
  refine v_zast F dX11_gather_73 (ar_X11_101 hX hp) hi36 ?_
  refine v_nD ed37 ?_
  obtain ⟨x38, ex38, h⟩ := lv_some h
  refine v_iincN F dX11_gather_74 (Nat.le_of_ble_eq_true rfl) rfl ex38 (L' := [mA 1545, mI a1, mI a2, mI x38, mU, mU]) rfl ?_
  refine v_goto F dX11_gather_77 rfl ?_
  cases h
  exact K
theorem fX11_gather_41f_ok {w : Wd} {l : Launch} {G : Cx} {m dd : Dt} {a1 a2 : Int} {d' : Dt} {s : Dt × Int} {x : ((Dt × Int) ⊕ Dt)} (F : Fx w G cX11_gather RX11 6 none { frames := 4, cells := 0, slots := 0, locals := 92 }) (hX : WF dd m) (hp : PB m 1545 11) (h : fX11_gather_41f a1 a2 s = some x) (K : (Sum.elim (fX11_gather_41P w l G (QM w G WF none d' m 0 0) m a1 a2) (fun q => q = d')) x) : V w l WF G (QM w G WF none d' m 0 0) s.1 m 0 0 41 [mA 1545, mI a1, mI a2, mI (s.2), mU, mU] [] := by
  obtain ⟨d, v3⟩ := s
  unfold fX11_gather_41f at h
  dsimp only at h
  refine v_iload_n F dX11_gather_41 rfl rfl ?_
  refine v_aload_n F dX11_gather_42 rfl rfl ?_
  refine gf_X11_755 F dX11_gather_43 hp ?_
  refine v_icmp_ge F dX11_gather_46 rfl (fun hq10 => ?_) (fun hq10 => ?_)
  · rw [if_pos hq10] at h
    obtain ⟨z, hu, ez⟩ := up_some h
    clear h
    subst ez
    have h := hu
    clear hu
    refine v_aload_n F dX11_gather_80 rfl rfl ?_
    refine v_iconst F dX11_gather_81 ⟨by decide, by decide⟩ ?_
    obtain ⟨d11, ed11, h⟩ := sd_some h
    refine pf_X11_767 F dX11_gather_82 hp ?_
    refine v_nD ed11 ?_
    refine v_aload_n F dX11_gather_85 rfl rfl ?_
    refine v_iconst F dX11_gather_86 ⟨by decide, by decide⟩ ?_
    obtain ⟨d12, ed12, h⟩ := sd_some h
    refine pf_X11_770 F dX11_gather_87 hp ?_
    refine v_nD ed12 ?_
    refine v_aload_n F dX11_gather_90 rfl rfl ?_
    refine v_iconst F dX11_gather_91 ⟨by decide, by decide⟩ ?_
    obtain ⟨d13, ed13, h⟩ := sd_some h
    refine pf_X11_773 F dX11_gather_92 hp ?_
    refine v_nD ed13 ?_
    refine v_iconst F dX11_gather_95 ⟨by decide, by decide⟩ ?_
    refine v_istore_n F dX11_gather_96 rfl (Nat.le_of_ble_eq_true rfl) (L' := [mA 1545, mI a1, mI a2, mI 0, mU, mU]) rfl ?_
    exact fX11_gather_97_ok F hX hp h K
  · rw [if_neg hq10] at h
    refine v_aload_n F dX11_gather_49 rfl rfl ?_
    refine gf_X11_764 F dX11_gather_50 hp (v := 1617) rfl ?_
    refine v_iload_n F dX11_gather_53 rfl rfl ?_
    refine v_aload_n F dX11_gather_54 rfl rfl ?_
    refine gf_X11_567 F dX11_gather_55 hp (v := 1591) rfl ?_
    refine v_bipush F dX11_gather_58 rfl ⟨by decide, by decide⟩ ?_
    refine v_iload_n F dX11_gather_60 rfl rfl ?_
    refine v_imul F dX11_gather_61 ?_
    refine v_iload_n F dX11_gather_62 rfl rfl ?_
    refine v_iadd F dX11_gather_63 ?_
    obtain ⟨x33, ex33, h⟩ := lv_some h
    refine v_nI ex33 ?_
    obtain ⟨hi34, h⟩ := ck_some h
    refine v_zald F dX11_gather_64 (ar_X11_67 hX hp) hi34 ?_
    refine v_if_ne F dX11_gather_65 rfl (fun hq35 => ?_) (fun hq35 => ?_)
    · rw [if_neg hq35] at h
      refine v_iconst F dX11_gather_72 ⟨by decide, by decide⟩ ?_
      exact fX11_gather_73_ok F hX hp h K
    · rw [if_pos hq35] at h
      refine v_iconst F dX11_gather_68 ⟨by decide, by decide⟩ ?_
      refine v_goto F dX11_gather_69 rfl ?_
      exact fX11_gather_73_ok F hX hp h K
theorem fX11_gather_41_ok {w : Wd} {l : Launch} {G : Cx} {d m dd : Dt} {a1 a2 v3 : Int} {d' : Dt} {x : Dt} (F : Fx w G cX11_gather RX11 6 none { frames := 4, cells := 0, slots := 0, locals := 92 }) (hX : WF dd m) (hp : PB m 1545 11) (h : fX11_gather_41 d a1 a2 v3 = some x) (K : (fun q => q = d') x) : V w l WF G (QM w G WF none d' m 0 0) d m 0 0 41 [mA 1545, mI a1, mI a2, mI v3, mU, mU] [] := by
  unfold fX11_gather_41 at h
  exact loop_ok (P := fX11_gather_41P w l G (QM w G WF none d' m 0 0) m a1 a2) (fun s x hx h1 h2 => fX11_gather_41f_ok F hX hp hx (by
    cases x with
    | inl s' => exact h1 s' rfl
    | inr z => cases h2 z rfl; exact K)) h
theorem vm_X11_gather {w : Wd} {l : Launch} {d m : Dt} {a1 a2 : Int} {d' : Dt} (hp : PB m 1545 11) (h : fX11_gather d a1 a2 = some d') : VM w l WF yX11_gather cX11_gather 6 none 4 92 0 0 d m [mA 1545, mI a1, mI a2] none d' m := by
  obtain ⟨x, h, K⟩ : ∃ x, fX11_gather d a1 a2 = some x ∧ x = d' := ⟨_, h, rfl⟩
  refine VM.of (L := [mA 1545, mI a1, mI a2, mU, mU, mU]) (by decide +kernel) rfl (Nat.le_of_ble_eq_true rfl) fun G F _ => v_fact fun _ hX _ _ => ?_
  unfold fX11_gather at h
  refine v_aload_n F dX11_gather_0 rfl rfl ?_
  refine v_iload_n F dX11_gather_1 rfl rfl ?_
  obtain ⟨d1, ed1, h⟩ := sd_some h
  refine pf_X11_749 F dX11_gather_2 hp ?_
  refine v_nD ed1 ?_
  refine v_aload_n F dX11_gather_5 rfl rfl ?_
  refine v_aload_n F dX11_gather_6 rfl rfl ?_
  refine gf_X11_488 F dX11_gather_7 hp (v := 1589) rfl ?_
  refine v_iload_n F dX11_gather_10 rfl rfl ?_
  obtain ⟨hi2, h⟩ := ck_some h
  refine v_iald F dX11_gather_11 (ar_X11_65 hX hp) hi2 ?_
  obtain ⟨d3, ed3, h⟩ := sd_some h
  refine pf_X11_755 F dX11_gather_12 hp ?_
  refine v_nD ed3 ?_
  refine v_aload_n F dX11_gather_15 rfl rfl ?_
  refine v_aload_n F dX11_gather_16 rfl rfl ?_
  refine v_iload_n F dX11_gather_17 rfl rfl ?_
  refine v_iconst F dX11_gather_18 ⟨by decide, by decide⟩ ?_
  obtain ⟨x4, hc5, h⟩ := b1_some h
  refine v_callVv (c := 11) F dX11_gather_19 cv_X11_485 rfl (PB.ob hp hX (Nat.le_of_ble_eq_true rfl)) (Nat.le_of_ble_eq_true rfl) rfl (vm_X11_contestIs hp hc5) rfl (rOk.of rfl) ?_
  obtain ⟨d6, ed6, h⟩ := sd_some h
  refine pf_X11_758 F dX11_gather_22 hp ?_
  refine v_nD ed6 ?_
  refine v_aload_n F dX11_gather_25 rfl rfl ?_
  refine v_aload_n F dX11_gather_26 rfl rfl ?_
  refine gf_X11_755 F dX11_gather_27 hp ?_
  refine v_aload_n F dX11_gather_30 rfl rfl ?_
  refine v_iload_n F dX11_gather_31 rfl rfl ?_
  obtain ⟨x7, hc8, h⟩ := b1_some h
  refine v_callVv (c := 11) F dX11_gather_32 cv_X11_491 rfl (PB.ob hp hX (Nat.le_of_ble_eq_true rfl)) (Nat.le_of_ble_eq_true rfl) rfl (vm_X11_struckOf hp hc8) rfl (rOk.of rfl) ?_
  refine v_isub F dX11_gather_35 ?_
  obtain ⟨d9, ed9, h⟩ := sd_some h
  refine pf_X11_761 F dX11_gather_36 hp ?_
  refine v_nD ed9 ?_
  refine v_iconst F dX11_gather_39 ⟨by decide, by decide⟩ ?_
  refine v_istore_n F dX11_gather_40 rfl (Nat.le_of_ble_eq_true rfl) (L' := [mA 1545, mI a1, mI a2, mI 0, mU, mU]) rfl ?_
  exact fX11_gather_41_ok F hX hp h K
def fX11_noVotes_2P (w : Wd) (l : Launch) (G : Cx) (Q : State → Prop) (m : Dt) (s : Dt × Int) : Prop := V w l WF G Q s.1 m 0 0 2 [mA 1545, mI (s.2)] []
theorem fX11_noVotes_2f_ok {w : Wd} {l : Launch} {G : Cx} {m dd : Dt} {d' : Dt} {s : Dt × Int} {x : ((Dt × Int) ⊕ Dt)} (F : Fx w G cX11_noVotes RX11 2 none { frames := 0, cells := 0, slots := 0, locals := 0 }) (hX : WF dd m) (hp : PB m 1545 11) (h : fX11_noVotes_2f s = some x) (K : (Sum.elim (fX11_noVotes_2P w l G (QM w G WF none d' m 0 0) m) (fun q => q = d')) x) : V w l WF G (QM w G WF none d' m 0 0) s.1 m 0 0 2 [mA 1545, mI (s.2)] [] := by
  obtain ⟨d, v1⟩ := s
  unfold fX11_noVotes_2f at h
  dsimp only at h
  refine v_iload_n F dX11_noVotes_2 rfl rfl ?_
  refine v_bipush F dX11_noVotes_3 rfl ⟨by decide, by decide⟩ ?_
  refine v_icmp_ge F dX11_noVotes_5 rfl (fun hq1 => ?_) (fun hq1 => ?_)
  · rw [if_pos hq1] at h
    obtain ⟨z, hu, ez⟩ := up_some h
    clear h
    subst ez
    have h := hu
    clear hu
    cases h
    cases (show _ = d' from K)
    exact v_vret F dX11_noVotes_21
  · rw [if_neg hq1] at h
    refine v_aload_n F dX11_noVotes_8 rfl rfl ?_
    refine gf_X11_801 F dX11_noVotes_9 hp (v := 1621) rfl ?_
    refine v_iload_n F dX11_noVotes_12 rfl rfl ?_
    refine v_lconst0 F dX11_noVotes_13 ?_
    obtain ⟨hi2, h⟩ := ck_some h
    obtain ⟨d3, ed3, h⟩ := sd_some h
    refine v_last F dX11_noVotes_14 (ar_X11_108 hX hp) hi2 ?_
    refine v_nD ed3 ?_
    obtain ⟨x4, ex4, h⟩ := lv_some h
    refine v_iincN F dX11_noVotes_15 (Nat.le_of_ble_eq_true rfl) rfl ex4 (L' := [mA 1545, mI x4]) rfl ?_
    refine v_goto F dX11_noVotes_18 rfl ?_
    cases h
    exact K
theorem fX11_noVotes_2_ok {w : Wd} {l : Launch} {G : Cx} {d m dd : Dt} {v1 : Int} {d' : Dt} {x : Dt} (F : Fx w G cX11_noVotes RX11 2 none { frames := 0, cells := 0, slots := 0, locals := 0 }) (hX : WF dd m) (hp : PB m 1545 11) (h : fX11_noVotes_2 d v1 = some x) (K : (fun q => q = d') x) : V w l WF G (QM w G WF none d' m 0 0) d m 0 0 2 [mA 1545, mI v1] [] := by
  unfold fX11_noVotes_2 at h
  exact loop_ok (P := fX11_noVotes_2P w l G (QM w G WF none d' m 0 0) m) (fun s x hx h1 h2 => fX11_noVotes_2f_ok F hX hp hx (by
    cases x with
    | inl s' => exact h1 s' rfl
    | inr z => cases h2 z rfl; exact K)) h
theorem vm_X11_noVotes {w : Wd} {l : Launch} {d m : Dt} {d' : Dt} (hp : PB m 1545 11) (h : fX11_noVotes d = some d') : VM w l WF yX11_noVotes cX11_noVotes 2 none 0 0 0 0 d m [mA 1545] none d' m := by
  obtain ⟨x, h, K⟩ : ∃ x, fX11_noVotes d = some x ∧ x = d' := ⟨_, h, rfl⟩
  refine VM.of (L := [mA 1545, mU]) (by decide +kernel) rfl (Nat.le_of_ble_eq_true rfl) fun G F _ => v_fact fun _ hX _ _ => ?_
  unfold fX11_noVotes at h
  refine v_iconst F dX11_noVotes_0 ⟨by decide, by decide⟩ ?_
  refine v_istore_n F dX11_noVotes_1 rfl (Nat.le_of_ble_eq_true rfl) (L' := [mA 1545, mI 0]) rfl ?_
  exact fX11_noVotes_2_ok F hX hp h K
def fX11_votesByMarks_6P (w : Wd) (l : Launch) (G : Cx) (Q : State → Prop) (m : Dt) (a1 : Int) (s : Dt × Int) : Prop := V w l WF G Q s.1 m 0 0 6 [mA 1545, mI a1, mI (s.2), mU] []
def fX11_votesByMarks_16P (w : Wd) (l : Launch) (G : Cx) (Q : State → Prop) (m : Dt) (a1 v2 : Int) (s : Dt × Int) : Prop := V w l WF G Q s.1 m 0 0 16 [mA 1545, mI a1, mI v2, mI (s.2)] []
theorem fX11_votesByMarks_70_ok {w : Wd} {l : Launch} {G : Cx} {d m dd : Dt} {a1 v2 v3 s1 s2 s3 : Int} {d' : Dt} {x : ((Dt × Int) ⊕ ((Dt × Int) ⊕ Dt))} (F : Fx w G cX11_votesByMarks RX11 4 none { frames := 1, cells := 0, slots := 0, locals := 21 }) (hX : WF dd m) (hp : PB m 1545 11) (h : fX11_votesByMarks_70 d a1 v2 v3 s1 s2 s3 = some x) (K : (Sum.elim (fX11_votesByMarks_16P w l G (QM w G WF none d' m 0 0) m a1 v2) (Sum.elim (fX11_votesByMarks_6P w l G (QM w G WF none d' m 0 0) m a1) (fun q => q = d'))) x) : V w l WF G (QM w G WF none d' m 0 0) d m 0 0 70 [mA 1545, mI a1, mI v2, mI v3] [mL s3, mL s2, mI s1, mA 1621] := by
  unfold fX11_votesByMarks_70 at h
  refine v_ladd F dX11_votesByMarks_70 ?_
  obtain ⟨hi11, h⟩ := ck_some h
  obtain ⟨d12, ed12, h⟩ := sd_some h
  refine v_last F dX11_votesByMarks_71 (ar_X11_108 hX hp) hi11 ?_
  refine v_nD ed12 ?_
  obtain ⟨x13, ex13, h⟩ := lv_some h
  refine v_iincN F dX11_votesByMarks_72 (Nat.le_of_ble_eq_true rfl) rfl ex13 (L' := [mA 1545, mI a1, mI v2, mI x13]) rfl ?_
  refine v_goto F dX11_votesByMarks_75 rfl ?_
  cases h
  exact K
theorem fX11_votesByMarks_16f_ok {w : Wd} {l : Launch} {G : Cx} {m dd : Dt} {a1 v2 : Int} {d' : Dt} {s : Dt × Int} {x : ((Dt × Int) ⊕ ((Dt × Int) ⊕ Dt))} (F : Fx w G cX11_votesByMarks RX11 4 none { frames := 1, cells := 0, slots := 0, locals := 21 }) (hX : WF dd m) (hp : PB m 1545 11) (h : fX11_votesByMarks_16f a1 v2 s = some x) (K : (Sum.elim (fX11_votesByMarks_16P w l G (QM w G WF none d' m 0 0) m a1 v2) (Sum.elim (fX11_votesByMarks_6P w l G (QM w G WF none d' m 0 0) m a1) (fun q => q = d'))) x) : V w l WF G (QM w G WF none d' m 0 0) s.1 m 0 0 16 [mA 1545, mI a1, mI v2, mI (s.2)] [] := by
  obtain ⟨d, v3⟩ := s
  unfold fX11_votesByMarks_16f at h
  dsimp only at h
  refine v_iload_n F dX11_votesByMarks_16 rfl rfl ?_
  refine v_aload_n F dX11_votesByMarks_17 rfl rfl ?_
  refine gf_X11_755 F dX11_votesByMarks_18 hp ?_
  refine v_icmp_ge F dX11_votesByMarks_21 rfl (fun hq4 => ?_) (fun hq4 => ?_)
  · rw [if_pos hq4] at h
    obtain ⟨z, hu, ez⟩ := up_some h
    clear h
    subst ez
    have h := hu
    clear hu
    obtain ⟨x5, ex5, h⟩ := lv_some h
    refine v_iincN F dX11_votesByMarks_78 (Nat.le_of_ble_eq_true rfl) rfl ex5 (L' := [mA 1545, mI a1, mI x5, mI v3]) rfl ?_
    refine v_goto F dX11_votesByMarks_81 rfl ?_
    cases h
    refine v_fgt (L' := [mA 1545, mI a1, mI x5, mU]) ⟨Or.inl rfl, Or.inl rfl, Or.inl rfl, Or.inr rfl, trivial⟩ ?_
    exact K
  · rw [if_neg hq4] at h
    refine v_aload_n F dX11_votesByMarks_24 rfl rfl ?_
    refine gf_X11_801 F dX11_votesByMarks_25 hp (v := 1621) rfl ?_
    refine v_iload_n F dX11_votesByMarks_28 rfl rfl ?_
    refine v_dup2_IA F dX11_votesByMarks_29 ?_
    obtain ⟨hi6, h⟩ := ck_some h
    refine v_lald F dX11_votesByMarks_30 (ar_X11_108 hX hp) hi6 ?_
    refine v_iload_n F dX11_votesByMarks_31 rfl rfl ?_
    refine v_iconst F dX11_votesByMarks_32 ⟨by decide, by decide⟩ ?_
    refine v_icmp_ne F dX11_votesByMarks_33 rfl (fun hq7 => ?_) (fun hq7 => ?_)
    · rw [if_neg hq7] at h
      refine v_aload_n F dX11_votesByMarks_51 rfl rfl ?_
      refine gf_X11_780 F dX11_votesByMarks_52 hp (v := 1618) rfl ?_
      refine v_bipush F dX11_votesByMarks_55 rfl ⟨by decide, by decide⟩ ?_
      refine v_iload_n F dX11_votesByMarks_57 rfl rfl ?_
      refine v_imul F dX11_votesByMarks_58 ?_
      refine v_iload_n F dX11_votesByMarks_59 rfl rfl ?_
      refine v_iadd F dX11_votesByMarks_60 ?_
      obtain ⟨x8, ex8, h⟩ := lv_some h
      refine v_nI ex8 ?_
      obtain ⟨hi9, h⟩ := ck_some h
      refine v_iald F dX11_votesByMarks_61 (ar_X11_105 hX hp) hi9 ?_
      refine v_if_le F dX11_votesByMarks_62 rfl (fun hq10 => ?_) (fun hq10 => ?_)
      · rw [if_pos hq10] at h
        refine v_lconst0 F dX11_votesByMarks_69 ?_
        exact fX11_votesByMarks_70_ok F hX hp h K
      · rw [if_neg hq10] at h
        refine v_lconst1 F dX11_votesByMarks_65 ?_
        refine v_goto F dX11_votesByMarks_66 rfl ?_
        exact fX11_votesByMarks_70_ok F hX hp h K
    · rw [if_pos hq7] at h
      refine v_aload_n F dX11_votesByMarks_36 rfl rfl ?_
      refine gf_X11_780 F dX11_votesByMarks_37 hp (v := 1618) rfl ?_
      refine v_bipush F dX11_votesByMarks_40 rfl ⟨by decide, by decide⟩ ?_
      refine v_iload_n F dX11_votesByMarks_42 rfl rfl ?_
      refine v_imul F dX11_votesByMarks_43 ?_
      refine v_iload_n F dX11_votesByMarks_44 rfl rfl ?_
      refine v_iadd F dX11_votesByMarks_45 ?_
      obtain ⟨x14, ex14, h⟩ := lv_some h
      refine v_nI ex14 ?_
      obtain ⟨hi15, h⟩ := ck_some h
      refine v_iald F dX11_votesByMarks_46 (ar_X11_105 hX hp) hi15 ?_
      refine v_i2l F dX11_votesByMarks_47 ?_
      refine v_goto F dX11_votesByMarks_48 rfl ?_
      exact fX11_votesByMarks_70_ok F hX hp h K
theorem fX11_votesByMarks_16_ok {w : Wd} {l : Launch} {G : Cx} {d m dd : Dt} {a1 v2 v3 : Int} {d' : Dt} {x : ((Dt × Int) ⊕ Dt)} (F : Fx w G cX11_votesByMarks RX11 4 none { frames := 1, cells := 0, slots := 0, locals := 21 }) (hX : WF dd m) (hp : PB m 1545 11) (h : fX11_votesByMarks_16 d a1 v2 v3 = some x) (K : (Sum.elim (fX11_votesByMarks_6P w l G (QM w G WF none d' m 0 0) m a1) (fun q => q = d')) x) : V w l WF G (QM w G WF none d' m 0 0) d m 0 0 16 [mA 1545, mI a1, mI v2, mI v3] [] := by
  unfold fX11_votesByMarks_16 at h
  exact loop_ok (P := fX11_votesByMarks_16P w l G (QM w G WF none d' m 0 0) m a1 v2) (fun s x hx h1 h2 => fX11_votesByMarks_16f_ok F hX hp hx (by
    cases x with
    | inl s' => exact h1 s' rfl
    | inr z => cases h2 z rfl; exact K)) h
theorem fX11_votesByMarks_6f_ok {w : Wd} {l : Launch} {G : Cx} {m dd : Dt} {a1 : Int} {d' : Dt} {s : Dt × Int} {x : ((Dt × Int) ⊕ Dt)} (F : Fx w G cX11_votesByMarks RX11 4 none { frames := 1, cells := 0, slots := 0, locals := 21 }) (hX : WF dd m) (hp : PB m 1545 11) (h : fX11_votesByMarks_6f a1 s = some x) (K : (Sum.elim (fX11_votesByMarks_6P w l G (QM w G WF none d' m 0 0) m a1) (fun q => q = d')) x) : V w l WF G (QM w G WF none d' m 0 0) s.1 m 0 0 6 [mA 1545, mI a1, mI (s.2), mU] [] := by
  obtain ⟨d, v2⟩ := s
  unfold fX11_votesByMarks_6f at h
  dsimp only at h
  refine v_iload_n F dX11_votesByMarks_6 rfl rfl ?_
  refine v_aload_n F dX11_votesByMarks_7 rfl rfl ?_
  refine gf_X11_767 F dX11_votesByMarks_8 hp ?_
  refine v_icmp_ge F dX11_votesByMarks_11 rfl (fun hq3 => ?_) (fun hq3 => ?_)
  · rw [if_pos hq3] at h
    obtain ⟨z, hu, ez⟩ := up_some h
    clear h
    subst ez
    have h := hu
    clear hu
    cases h
    cases (show _ = d' from K)
    exact v_vret F dX11_votesByMarks_84
  · rw [if_neg hq3] at h
    refine v_iconst F dX11_votesByMarks_14 ⟨by decide, by decide⟩ ?_
    refine v_istore_n F dX11_votesByMarks_15 rfl (Nat.le_of_ble_eq_true rfl) (L' := [mA 1545, mI a1, mI v2, mI 0]) rfl ?_
    exact fX11_votesByMarks_16_ok F hX hp h K
theorem fX11_votesByMarks_6_ok {w : Wd} {l : Launch} {G : Cx} {d m dd : Dt} {a1 v2 : Int} {d' : Dt} {x : Dt} (F : Fx w G cX11_votesByMarks RX11 4 none { frames := 1, cells := 0, slots := 0, locals := 21 }) (hX : WF dd m) (hp : PB m 1545 11) (h : fX11_votesByMarks_6 d a1 v2 = some x) (K : (fun q => q = d') x) : V w l WF G (QM w G WF none d' m 0 0) d m 0 0 6 [mA 1545, mI a1, mI v2, mU] [] := by
  unfold fX11_votesByMarks_6 at h
  exact loop_ok (P := fX11_votesByMarks_6P w l G (QM w G WF none d' m 0 0) m a1) (fun s x hx h1 h2 => fX11_votesByMarks_6f_ok F hX hp hx (by
    cases x with
    | inl s' => exact h1 s' rfl
    | inr z => cases h2 z rfl; exact K)) h
theorem vm_X11_votesByMarks {w : Wd} {l : Launch} {d m : Dt} {a1 : Int} {d' : Dt} (hp : PB m 1545 11) (h : fX11_votesByMarks d a1 = some d') : VM w l WF yX11_votesByMarks cX11_votesByMarks 4 none 1 21 0 0 d m [mA 1545, mI a1] none d' m := by
  obtain ⟨x, h, K⟩ : ∃ x, fX11_votesByMarks d a1 = some x ∧ x = d' := ⟨_, h, rfl⟩
  refine VM.of (L := [mA 1545, mI a1, mU, mU]) (by decide +kernel) rfl (Nat.le_of_ble_eq_true rfl) fun G F _ => v_fact fun _ hX _ _ => ?_
  unfold fX11_votesByMarks at h
  refine v_aload_n F dX11_votesByMarks_0 rfl rfl ?_
  obtain ⟨d1, hc2, h⟩ := bd_some h
  refine v_callV0 (c := 11) F dX11_votesByMarks_1 cv_X11_811 rfl (PB.ob hp hX (Nat.le_of_ble_eq_true rfl)) (Nat.le_of_ble_eq_true rfl) rfl (vm_X11_noVotes hp hc2) rfl (rOk.of rfl) ?_
  refine v_iconst F dX11_votesByMarks_4 ⟨by decide, by decide⟩ ?_
  refine v_istore_n F dX11_votesByMarks_5 rfl (Nat.le_of_ble_eq_true rfl) (L' := [mA 1545, mI a1, mI 0, mU]) rfl ?_
  exact fX11_votesByMarks_6_ok F hX hp h K
theorem vm_X11_lot {w : Wd} {l : Launch} {d m : Dt} {a1 : Int} {r : Int} (hp : PB m 1545 11) (h : fX11_lot d a1 = some r) : VM w l WF yX11_lot cX11_lot 2 (some .int) 0 0 0 0 d m [mA 1545, mI a1] (some (mI r)) d m := by
  obtain ⟨x, h, K⟩ : ∃ x, fX11_lot d a1 = some x ∧ x = r := ⟨_, h, rfl⟩
  refine VM.of (L := [mA 1545, mI a1]) (by decide +kernel) rfl (Nat.le_of_ble_eq_true rfl) fun G F _ => v_fact fun _ hX _ _ => ?_
  unfold fX11_lot at h
  refine v_aload_n F dX11_lot_0 rfl rfl ?_
  refine gf_X11_614 F dX11_lot_1 hp (v := 1593) rfl ?_
  refine v_bipush F dX11_lot_4 rfl ⟨by decide, by decide⟩ ?_
  refine v_aload_n F dX11_lot_6 rfl rfl ?_
  refine gf_X11_749 F dX11_lot_7 hp ?_
  refine v_imul F dX11_lot_10 ?_
  refine v_iload_n F dX11_lot_11 rfl rfl ?_
  refine v_iadd F dX11_lot_12 ?_
  obtain ⟨x1, ex1, h⟩ := lv_some h
  refine v_nI ex1 ?_
  obtain ⟨hi2, h⟩ := ck_some h
  refine v_iald F dX11_lot_13 (ar_X11_69 hX hp) hi2 ?_
  cases h
  cases (show _ = r from K)
  exact v_iret F dX11_lot_14
def fX11_orderByVotes_7P (w : Wd) (l : Launch) (G : Cx) (Q : State → Prop) (m : Dt) (s : Dt × Int) : Prop := V w l WF G Q s.1 m 0 0 7 [mA 1545, mI (s.2), mU] []
def fX11_orderByVotes_32P (w : Wd) (l : Launch) (G : Cx) (Q : State → Prop) (m : Dt) (v1 : Int) (s : Dt × Int) : Prop := V w l WF G Q s.1 m 0 0 32 [mA 1545, mI v1, mI (s.2)] []
theorem fX11_orderByVotes_122_ok {w : Wd} {l : Launch} {G : Cx} {d m dd : Dt} {v1 v2 : Int} {d' : Dt} {x : ((Dt × Int) ⊕ Dt)} (F : Fx w G cX11_orderByVotes RX11 3 none { frames := 1, cells := 0, slots := 0, locals := 21 }) (hX : WF dd m) (hp : PB m 1545 11) (h : fX11_orderByVotes_122 d v1 v2 = some x) (K : (Sum.elim (fX11_orderByVotes_7P w l G (QM w G WF none d' m 0 0) m) (fun q => q = d')) x) : V w l WF G (QM w G WF none d' m 0 0) d m 0 0 122 [mA 1545, mI v1, mI v2] [] := by
  unfold fX11_orderByVotes_122 at h
  refine v_aload_n F dX11_orderByVotes_122 rfl rfl ?_
  refine gf_X11_805 F dX11_orderByVotes_123 hp (v := 1622) rfl ?_
  refine v_iload_n F dX11_orderByVotes_126 rfl rfl ?_
  refine v_iload_n F dX11_orderByVotes_127 rfl rfl ?_
  obtain ⟨hi7, h⟩ := ck_some h
  obtain ⟨d8, ed8, h⟩ := sd_some h
  refine v_iast F dX11_orderByVotes_128 (ar_X11_109 hX hp) hi7 ?_
  refine v_nD ed8 ?_
  refine v_aload_n F dX11_orderByVotes_129 rfl rfl ?_
  refine v_dup_A F dX11_orderByVotes_130 ?_
  refine gf_X11_798 F dX11_orderByVotes_131 hp ?_
  refine v_iconst F dX11_orderByVotes_134 ⟨by decide, by decide⟩ ?_
  refine v_iadd F dX11_orderByVotes_135 ?_
  obtain ⟨d9, ed9, h⟩ := sd_some h
  refine pf_X11_798 F dX11_orderByVotes_136 hp ?_
  refine v_nD ed9 ?_
  obtain ⟨x10, ex10, h⟩ := lv_some h
  refine v_iincN F dX11_orderByVotes_139 (Nat.le_of_ble_eq_true rfl) rfl ex10 (L' := [mA 1545, mI x10, mI v2]) rfl ?_
  refine v_goto F dX11_orderByVotes_142 rfl ?_
  cases h
  refine v_fgt (L' := [mA 1545, mI x10, mU]) ⟨Or.inl rfl, Or.inl rfl, Or.inr rfl, trivial⟩ ?_
  exact K
theorem fX11_orderByVotes_102_ok {w : Wd} {l : Launch} {G : Cx} {d m dd : Dt} {v1 v2 : Int} {d' : Dt} {x : ((Dt × Int) ⊕ ((Dt × Int) ⊕ Dt))} (F : Fx w G cX11_orderByVotes RX11 3 none { frames := 1, cells := 0, slots := 0, locals := 21 }) (hX : WF dd m) (hp : PB m 1545 11) (h : fX11_orderByVotes_102 d v1 v2 = some x) (K : (Sum.elim (fX11_orderByVotes_32P w l G (QM w G WF none d' m 0 0) m v1) (Sum.elim (fX11_orderByVotes_7P w l G (QM w G WF none d' m 0 0) m) (fun q => q = d'))) x) : V w l WF G (QM w G WF none d' m 0 0) d m 0 0 102 [mA 1545, mI v1, mI v2] [] := by
  unfold fX11_orderByVotes_102 at h
  refine v_aload_n F dX11_orderByVotes_102 rfl rfl ?_
  refine gf_X11_805 F dX11_orderByVotes_103 hp (v := 1622) rfl ?_
  refine v_iload_n F dX11_orderByVotes_106 rfl rfl ?_
  refine v_aload_n F dX11_orderByVotes_107 rfl rfl ?_
  refine gf_X11_805 F dX11_orderByVotes_108 hp (v := 1622) rfl ?_
  refine v_iload_n F dX11_orderByVotes_111 rfl rfl ?_
  refine v_iconst F dX11_orderByVotes_112 ⟨by decide, by decide⟩ ?_
  refine v_isub F dX11_orderByVotes_113 ?_
  obtain ⟨x17, ex17, h⟩ := lv_some h
  refine v_nI ex17 ?_
  obtain ⟨hi18, h⟩ := ck_some h
  refine v_iald F dX11_orderByVotes_114 (ar_X11_109 hX hp) hi18 ?_
  obtain ⟨hi19, h⟩ := ck_some h
  obtain ⟨d20, ed20, h⟩ := sd_some h
  refine v_iast F dX11_orderByVotes_115 (ar_X11_109 hX hp) hi19 ?_
  refine v_nD ed20 ?_
  obtain ⟨x21, ex21, h⟩ := lv_some h
  refine v_iincN F dX11_orderByVotes_116 (Nat.le_of_ble_eq_true rfl) rfl ex21 (L' := [mA 1545, mI v1, mI x21]) rfl ?_
  refine v_goto F dX11_orderByVotes_119 rfl ?_
  cases h
  exact K
theorem fX11_orderByVotes_32f_ok {w : Wd} {l : Launch} {G : Cx} {m dd : Dt} {v1 : Int} {d' : Dt} {s : Dt × Int} {x : ((Dt × Int) ⊕ ((Dt × Int) ⊕ Dt))} (F : Fx w G cX11_orderByVotes RX11 3 none { frames := 1, cells := 0, slots := 0, locals := 21 }) (hX : WF dd m) (hp : PB m 1545 11) (h : fX11_orderByVotes_32f v1 s = some x) (K : (Sum.elim (fX11_orderByVotes_32P w l G (QM w G WF none d' m 0 0) m v1) (Sum.elim (fX11_orderByVotes_7P w l G (QM w G WF none d' m 0 0) m) (fun q => q = d'))) x) : V w l WF G (QM w G WF none d' m 0 0) s.1 m 0 0 32 [mA 1545, mI v1, mI (s.2)] [] := by
  obtain ⟨d, v2⟩ := s
  unfold fX11_orderByVotes_32f at h
  dsimp only at h
  refine v_iload_n F dX11_orderByVotes_32 rfl rfl ?_
  refine v_if_le F dX11_orderByVotes_33 rfl (fun hq6 => ?_) (fun hq6 => ?_)
  · rw [if_pos hq6] at h
    obtain ⟨z, hu, ez⟩ := up_some h
    clear h
    subst ez
    have h := hu
    clear hu
    exact fX11_orderByVotes_122_ok F hX hp h K
  · rw [if_neg hq6] at h
    refine v_aload_n F dX11_orderByVotes_36 rfl rfl ?_
    refine gf_X11_801 F dX11_orderByVotes_37 hp (v := 1621) rfl ?_
    refine v_iload_n F dX11_orderByVotes_40 rfl rfl ?_
    obtain ⟨hi11, h⟩ := ck_some h
    refine v_lald F dX11_orderByVotes_41 (ar_X11_108 hX hp) hi11 ?_
    refine v_aload_n F dX11_orderByVotes_42 rfl rfl ?_
    refine gf_X11_801 F dX11_orderByVotes_43 hp (v := 1621) rfl ?_
    refine v_aload_n F dX11_orderByVotes_46 rfl rfl ?_
    refine gf_X11_805 F dX11_orderByVotes_47 hp (v := 1622) rfl ?_
    refine v_iload_n F dX11_orderByVotes_50 rfl rfl ?_
    refine v_iconst F dX11_orderByVotes_51 ⟨by decide, by decide⟩ ?_
    refine v_isub F dX11_orderByVotes_52 ?_
    obtain ⟨x12, ex12, h⟩ := lv_some h
    refine v_nI ex12 ?_
    obtain ⟨hi13, h⟩ := ck_some h
    refine v_iald F dX11_orderByVotes_53 (ar_X11_109 hX hp) hi13 ?_
    obtain ⟨x14, ex14, h⟩ := lv_some h
    refine v_nI ex14 ?_
    obtain ⟨hi15, h⟩ := ck_some h
    refine v_lald F dX11_orderByVotes_54 (ar_X11_108 hX hp) hi15 ?_
    refine v_lcmp F dX11_orderByVotes_55 ?_
    refine v_if_gt F dX11_orderByVotes_56 rfl (fun hq16 => ?_) (fun hq16 => ?_)
    · rw [if_pos hq16] at h
      exact fX11_orderByVotes_102_ok F hX hp h K
    · rw [if_neg hq16] at h
      refine v_aload_n F dX11_orderByVotes_59 rfl rfl ?_
      refine gf_X11_801 F dX11_orderByVotes_60 hp (v := 1621) rfl ?_
      refine v_iload_n F dX11_orderByVotes_63 rfl rfl ?_
      refine v_lald F dX11_orderByVotes_64 (ar_X11_108 hX hp) hi11 ?_
      refine v_aload_n F dX11_orderByVotes_65 rfl rfl ?_
      refine gf_X11_801 F dX11_orderByVotes_66 hp (v := 1621) rfl ?_
      refine v_aload_n F dX11_orderByVotes_69 rfl rfl ?_
      refine gf_X11_805 F dX11_orderByVotes_70 hp (v := 1622) rfl ?_
      refine v_iload_n F dX11_orderByVotes_73 rfl rfl ?_
      refine v_iconst F dX11_orderByVotes_74 ⟨by decide, by decide⟩ ?_
      refine v_isub F dX11_orderByVotes_75 ?_
      obtain ⟨x22, ex22, h⟩ := lv_some h
      refine v_nI ex22 ?_
      obtain ⟨hi23, h⟩ := ck_some h
      refine v_iald F dX11_orderByVotes_76 (ar_X11_109 hX hp) hi23 ?_
      obtain ⟨x24, ex24, h⟩ := lv_some h
      refine v_nI ex24 ?_
      obtain ⟨hi25, h⟩ := ck_some h
      refine v_lald F dX11_orderByVotes_77 (ar_X11_108 hX hp) hi25 ?_
      refine v_lcmp F dX11_orderByVotes_78 ?_
      refine v_if_ne F dX11_orderByVotes_79 rfl (fun hq26 => ?_) (fun hq26 => ?_)
      · rw [if_neg hq26] at h
        obtain ⟨z, hu, ez⟩ := up_some h
        clear h
        subst ez
        have h := hu
        clear hu
        exact fX11_orderByVotes_122_ok F hX hp h K
      · rw [if_pos hq26] at h
        refine v_aload_n F dX11_orderByVotes_82 rfl rfl ?_
        refine v_iload_n F dX11_orderByVotes_83 rfl rfl ?_
        obtain ⟨x27, hc28, h⟩ := b1_some h
        refine v_callVv (c := 11) F dX11_orderByVotes_84 cv_X11_808 rfl (PB.ob hp hX (Nat.le_of_ble_eq_true rfl)) (Nat.le_of_ble_eq_true rfl) rfl (vm_X11_lot hp hc28) rfl (rOk.of rfl) ?_
        refine v_aload_n F dX11_orderByVotes_87 rfl rfl ?_
        refine v_aload_n F dX11_orderByVotes_88 rfl rfl ?_
        refine gf_X11_805 F dX11_orderByVotes_89 hp (v := 1622) rfl ?_
        refine v_iload_n F dX11_orderByVotes_92 rfl rfl ?_
        refine v_iconst F dX11_orderByVotes_93 ⟨by decide, by decide⟩ ?_
        refine v_isub F dX11_orderByVotes_94 ?_
        obtain ⟨x29, ex29, h⟩ := lv_some h
        refine v_nI ex29 ?_
        obtain ⟨hi30, h⟩ := ck_some h
        refine v_iald F dX11_orderByVotes_95 (ar_X11_109 hX hp) hi30 ?_
        obtain ⟨x31, hc32, h⟩ := b1_some h
        refine v_callVv (c := 11) F dX11_orderByVotes_96 cv_X11_808 rfl (PB.ob hp hX (Nat.le_of_ble_eq_true rfl)) (Nat.le_of_ble_eq_true rfl) rfl (vm_X11_lot hp hc32) rfl (rOk.of rfl) ?_
        refine v_icmp_ge F dX11_orderByVotes_99 rfl (fun hq33 => ?_) (fun hq33 => ?_)
        · rw [if_pos hq33] at h
          obtain ⟨z, hu, ez⟩ := up_some h
          clear h
          subst ez
          have h := hu
          clear hu
          exact fX11_orderByVotes_122_ok F hX hp h K
        · rw [if_neg hq33] at h
          exact fX11_orderByVotes_102_ok F hX hp h K
theorem fX11_orderByVotes_32_ok {w : Wd} {l : Launch} {G : Cx} {d m dd : Dt} {v1 v2 : Int} {d' : Dt} {x : ((Dt × Int) ⊕ Dt)} (F : Fx w G cX11_orderByVotes RX11 3 none { frames := 1, cells := 0, slots := 0, locals := 21 }) (hX : WF dd m) (hp : PB m 1545 11) (h : fX11_orderByVotes_32 d v1 v2 = some x) (K : (Sum.elim (fX11_orderByVotes_7P w l G (QM w G WF none d' m 0 0) m) (fun q => q = d')) x) : V w l WF G (QM w G WF none d' m 0 0) d m 0 0 32 [mA 1545, mI v1, mI v2] [] := by
  unfold fX11_orderByVotes_32 at h
  exact loop_ok (P := fX11_orderByVotes_32P w l G (QM w G WF none d' m 0 0) m v1) (fun s x hx h1 h2 => fX11_orderByVotes_32f_ok F hX hp hx (by
    cases x with
    | inl s' => exact h1 s' rfl
    | inr z => cases h2 z rfl; exact K)) h
theorem fX11_orderByVotes_7f_ok {w : Wd} {l : Launch} {G : Cx} {m dd : Dt} {d' : Dt} {s : Dt × Int} {x : ((Dt × Int) ⊕ Dt)} (F : Fx w G cX11_orderByVotes RX11 3 none { frames := 1, cells := 0, slots := 0, locals := 21 }) (hX : WF dd m) (hp : PB m 1545 11) (h : fX11_orderByVotes_7f s = some x) (K : (Sum.elim (fX11_orderByVotes_7P w l G (QM w G WF none d' m 0 0) m) (fun q => q = d')) x) : V w l WF G (QM w G WF none d' m 0 0) s.1 m 0 0 7 [mA 1545, mI (s.2), mU] [] := by
  obtain ⟨d, v1⟩ := s
  unfold fX11_orderByVotes_7f at h
  dsimp only at h
  refine v_iload_n F dX11_orderByVotes_7 rfl rfl ?_
  refine v_aload_n F dX11_orderByVotes_8 rfl rfl ?_
  refine gf_X11_755 F dX11_orderByVotes_9 hp ?_
  refine v_icmp_ge F dX11_orderByVotes_12 rfl (fun hq2 => ?_) (fun hq2 => ?_)
  · rw [if_pos hq2] at h
    obtain ⟨z, hu, ez⟩ := up_some h
    clear h
    subst ez
    have h := hu
    clear hu
    cases h
    cases (show _ = d' from K)
    exact v_vret F dX11_orderByVotes_145
  · rw [if_neg hq2] at h
    refine v_aload_n F dX11_orderByVotes_15 rfl rfl ?_
    refine gf_X11_764 F dX11_orderByVotes_16 hp (v := 1617) rfl ?_
    refine v_iload_n F dX11_orderByVotes_19 rfl rfl ?_
    obtain ⟨hi3, h⟩ := ck_some h
    refine v_zald F dX11_orderByVotes_20 (ar_X11_101 hX hp) hi3 ?_
    refine v_if_ne F dX11_orderByVotes_21 rfl (fun hq4 => ?_) (fun hq4 => ?_)
    · rw [if_neg hq4] at h
      refine v_aload_n F dX11_orderByVotes_27 rfl rfl ?_
      refine gf_X11_798 F dX11_orderByVotes_28 hp ?_
      obtain ⟨x5, ex5, h⟩ := lv_some h
      refine v_nI ex5 ?_
      refine v_istore_n F dX11_orderByVotes_31 rfl (Nat.le_of_ble_eq_true rfl) (L' := [mA 1545, mI v1, mI x5]) rfl ?_
      exact fX11_orderByVotes_32_ok F hX hp h K
    · rw [if_pos hq4] at h
      refine v_goto F dX11_orderByVotes_24 rfl ?_
      obtain ⟨x34, ex34, h⟩ := lv_some h
      refine v_iincN F dX11_orderByVotes_139 (Nat.le_of_ble_eq_true rfl) rfl ex34 (L' := [mA 1545, mI x34, mU]) rfl ?_
      refine v_goto F dX11_orderByVotes_142 rfl ?_
      cases h
      exact K
theorem fX11_orderByVotes_7_ok {w : Wd} {l : Launch} {G : Cx} {d m dd : Dt} {v1 : Int} {d' : Dt} {x : Dt} (F : Fx w G cX11_orderByVotes RX11 3 none { frames := 1, cells := 0, slots := 0, locals := 21 }) (hX : WF dd m) (hp : PB m 1545 11) (h : fX11_orderByVotes_7 d v1 = some x) (K : (fun q => q = d') x) : V w l WF G (QM w G WF none d' m 0 0) d m 0 0 7 [mA 1545, mI v1, mU] [] := by
  unfold fX11_orderByVotes_7 at h
  exact loop_ok (P := fX11_orderByVotes_7P w l G (QM w G WF none d' m 0 0) m) (fun s x hx h1 h2 => fX11_orderByVotes_7f_ok F hX hp hx (by
    cases x with
    | inl s' => exact h1 s' rfl
    | inr z => cases h2 z rfl; exact K)) h
theorem vm_X11_orderByVotes {w : Wd} {l : Launch} {d m : Dt} {d' : Dt} (hp : PB m 1545 11) (h : fX11_orderByVotes d = some d') : VM w l WF yX11_orderByVotes cX11_orderByVotes 3 none 1 21 0 0 d m [mA 1545] none d' m := by
  obtain ⟨x, h, K⟩ : ∃ x, fX11_orderByVotes d = some x ∧ x = d' := ⟨_, h, rfl⟩
  refine VM.of (L := [mA 1545, mU, mU]) (by decide +kernel) rfl (Nat.le_of_ble_eq_true rfl) fun G F _ => v_fact fun _ hX _ _ => ?_
  unfold fX11_orderByVotes at h
  refine v_aload_n F dX11_orderByVotes_0 rfl rfl ?_
  refine v_iconst F dX11_orderByVotes_1 ⟨by decide, by decide⟩ ?_
  obtain ⟨d1, ed1, h⟩ := sd_some h
  refine pf_X11_798 F dX11_orderByVotes_2 hp ?_
  refine v_nD ed1 ?_
  refine v_iconst F dX11_orderByVotes_5 ⟨by decide, by decide⟩ ?_
  refine v_istore_n F dX11_orderByVotes_6 rfl (Nat.le_of_ble_eq_true rfl) (L' := [mA 1545, mI 0, mU]) rfl ?_
  exact fX11_orderByVotes_7_ok F hX hp h K
theorem vm_X11_personOf {w : Wd} {l : Launch} {d m : Dt} {a1 : Int} {r : Int} (hp : PB m 1545 11) (h : fX11_personOf d a1 = some r) : VM w l WF yX11_personOf cX11_personOf 2 (some .int) 0 0 0 0 d m [mA 1545, mI a1] (some (mI r)) d m := by
  obtain ⟨x, h, K⟩ : ∃ x, fX11_personOf d a1 = some x ∧ x = r := ⟨_, h, rfl⟩
  refine VM.of (L := [mA 1545, mI a1]) (by decide +kernel) rfl (Nat.le_of_ble_eq_true rfl) fun G F _ => v_fact fun _ hX _ _ => ?_
  unfold fX11_personOf at h
  refine v_aload_n F dX11_personOf_0 rfl rfl ?_
  refine gf_X11_578 F dX11_personOf_1 hp (v := 1583) rfl ?_
  refine v_aload_n F dX11_personOf_4 rfl rfl ?_
  refine gf_X11_608 F dX11_personOf_5 hp (v := 1590) rfl ?_
  refine v_bipush F dX11_personOf_8 rfl ⟨by decide, by decide⟩ ?_
  refine v_aload_n F dX11_personOf_10 rfl rfl ?_
  refine gf_X11_749 F dX11_personOf_11 hp ?_
  refine v_imul F dX11_personOf_14 ?_
  refine v_iload_n F dX11_personOf_15 rfl rfl ?_
  refine v_iadd F dX11_personOf_16 ?_
  obtain ⟨x1, ex1, h⟩ := lv_some h
  refine v_nI ex1 ?_
  obtain ⟨hi2, h⟩ := ck_some h
  refine v_iald F dX11_personOf_17 (ar_X11_66 hX hp) hi2 ?_
  obtain ⟨x3, ex3, h⟩ := lv_some h
  refine v_nI ex3 ?_
  obtain ⟨hi4, h⟩ := ck_some h
  refine v_iald F dX11_personOf_18 (ar_X11_58 hX hp) hi4 ?_
  cases h
  cases (show _ = r from K)
  exact v_iret F dX11_personOf_19
def fX11_countFirsts_7P (w : Wd) (l : Launch) (G : Cx) (Q : State → Prop) (m : Dt) (a1 : Int) (s : Dt × Int) : Prop := V w l WF G Q s.1 m 0 0 7 [mA 1545, mI a1, mI (s.2), mU] []
def fX11_countFirsts_28P (w : Wd) (l : Launch) (G : Cx) (Q : State → Prop) (m : Dt) (a1 : Int) (s : Dt × Int) : Prop := V w l WF G Q s.1 m 0 0 28 [mA 1545, mI a1, mI (s.2), mU] []
def fX11_countFirsts_49P (w : Wd) (l : Launch) (G : Cx) (Q : State → Prop) (m : Dt) (a1 : Int) (s : Dt × Int) : Prop := V w l WF G Q s.1 m 0 0 49 [mA 1545, mI a1, mI (s.2), mU] []
def fX11_countFirsts_86P (w : Wd) (l : Launch) (G : Cx) (Q : State → Prop) (m : Dt) (a1 v2 : Int) (s : Dt × Int) : Prop := V w l WF G Q s.1 m 0 0 86 [mA 1545, mI a1, mI v2, mI (s.2)] []
theorem fX11_countFirsts_86f_ok {w : Wd} {l : Launch} {G : Cx} {m dd : Dt} {a1 v2 : Int} {d' : Dt} {s : Dt × Int} {x : ((Dt × Int) ⊕ ((Dt × Int) ⊕ Dt))} (F : Fx w G cX11_countFirsts RX11 4 none { frames := 5, cells := 0, slots := 0, locals := 117 }) (hX : WF dd m) (hp : PB m 1545 11) (h : fX11_countFirsts_86f a1 v2 s = some x) (K : (Sum.elim (fX11_countFirsts_86P w l G (QM w G WF none d' m 0 0) m a1 v2) (Sum.elim (fX11_countFirsts_49P w l G (QM w G WF none d' m 0 0) m a1) (fun q => q = d'))) x) : V w l WF G (QM w G WF none d' m 0 0) s.1 m 0 0 86 [mA 1545, mI a1, mI v2, mI (s.2)] [] := by
  obtain ⟨d, v3⟩ := s
  unfold fX11_countFirsts_86f at h
  dsimp only at h
  refine v_iload_n F dX11_countFirsts_86 rfl rfl ?_
  refine v_aload_n F dX11_countFirsts_87 rfl rfl ?_
  refine gf_X11_758 F dX11_countFirsts_88 hp ?_
  refine v_aload_n F dX11_countFirsts_91 rfl rfl ?_
  refine gf_X11_761 F dX11_countFirsts_92 hp ?_
  refine v_callSv F dX11_countFirsts_95 cs_X11_179 rfl (vm_J9_min) rfl (rOk.of rfl) ?_
  refine v_icmp_ge F dX11_countFirsts_98 rfl (fun hq14 => ?_) (fun hq14 => ?_)
  · rw [if_pos hq14] at h
    obtain ⟨z, hu, ez⟩ := up_some h
    clear h
    subst ez
    have h := hu
    clear hu
    obtain ⟨x15, ex15, h⟩ := lv_some h
    refine v_iincN F dX11_countFirsts_165 (Nat.le_of_ble_eq_true rfl) rfl ex15 (L' := [mA 1545, mI a1, mI x15, mI v3]) rfl ?_
    refine v_goto F dX11_countFirsts_168 rfl ?_
    cases h
    refine v_fgt (L' := [mA 1545, mI a1, mI x15, mU]) ⟨Or.inl rfl, Or.inl rfl, Or.inl rfl, Or.inr rfl, trivial⟩ ?_
    exact K
  · rw [if_neg hq14] at h
    refine v_aload_n F dX11_countFirsts_101 rfl rfl ?_
    refine v_dup_A F dX11_countFirsts_102 ?_
    refine gf_X11_1042 F dX11_countFirsts_103 hp ?_
    refine v_iconst F dX11_countFirsts_106 ⟨by decide, by decide⟩ ?_
    refine v_iadd F dX11_countFirsts_107 ?_
    obtain ⟨d16, ed16, h⟩ := sd_some h
    refine pf_X11_1042 F dX11_countFirsts_108 hp ?_
    refine v_nD ed16 ?_
    refine v_aload_n F dX11_countFirsts_111 rfl rfl ?_
    refine gf_X11_1048 F dX11_countFirsts_112 hp (v := 1652) rfl ?_
    refine v_aload_n F dX11_countFirsts_115 rfl rfl ?_
    refine v_aload_n F dX11_countFirsts_116 rfl rfl ?_
    refine gf_X11_805 F dX11_countFirsts_117 hp (v := 1622) rfl ?_
    refine v_iload_n F dX11_countFirsts_120 rfl rfl ?_
    obtain ⟨hi17, h⟩ := ck_some h
    refine v_iald F dX11_countFirsts_121 (ar_X11_109 hX hp) hi17 ?_
    obtain ⟨x18, hc19, h⟩ := b1_some h
    refine v_callVv (c := 11) F dX11_countFirsts_122 cv_X11_1051 rfl (PB.ob hp hX (Nat.le_of_ble_eq_true rfl)) (Nat.le_of_ble_eq_true rfl) rfl (vm_X11_personOf hp hc19) rfl (rOk.of rfl) ?_
    refine v_iconst F dX11_countFirsts_125 ⟨by decide, by decide⟩ ?_
    obtain ⟨hi20, h⟩ := ck_some h
    obtain ⟨d21, ed21, h⟩ := sd_some h
    refine v_zast F dX11_countFirsts_126 (ar_X11_150 hX hp) hi20 ?_
    refine v_nD ed21 ?_
    refine v_aload_n F dX11_countFirsts_127 rfl rfl ?_
    refine v_aload_n F dX11_countFirsts_128 rfl rfl ?_
    refine gf_X11_805 F dX11_countFirsts_129 hp (v := 1622) rfl ?_
    refine v_iload_n F dX11_countFirsts_132 rfl rfl ?_
    refine v_iald F dX11_countFirsts_133 (ar_X11_109 hX hp) hi17 ?_
    obtain ⟨x22, hc23, h⟩ := b1_some h
    refine v_callVv (c := 11) F dX11_countFirsts_134 cv_X11_752 rfl (PB.ob hp hX (Nat.le_of_ble_eq_true rfl)) (Nat.le_of_ble_eq_true rfl) rfl (vm_X11_partyOf hp hc23) rfl (rOk.of rfl) ?_
    refine v_if_lt F dX11_countFirsts_137 rfl (fun hq24 => ?_) (fun hq24 => ?_)
    · rw [if_pos hq24] at h
      obtain ⟨x25, ex25, h⟩ := lv_some h
      refine v_iincN F dX11_countFirsts_159 (Nat.le_of_ble_eq_true rfl) rfl ex25 (L' := [mA 1545, mI a1, mI v2, mI x25]) rfl ?_
      refine v_goto F dX11_countFirsts_162 rfl ?_
      cases h
      exact K
    · rw [if_neg hq24] at h
      refine v_aload_n F dX11_countFirsts_140 rfl rfl ?_
      refine gf_X11_1045 F dX11_countFirsts_141 hp (v := 1651) rfl ?_
      refine v_aload_n F dX11_countFirsts_144 rfl rfl ?_
      refine v_aload_n F dX11_countFirsts_145 rfl rfl ?_
      refine gf_X11_805 F dX11_countFirsts_146 hp (v := 1622) rfl ?_
      refine v_iload_n F dX11_countFirsts_149 rfl rfl ?_
      refine v_iald F dX11_countFirsts_150 (ar_X11_109 hX hp) hi17 ?_
      obtain ⟨x26, hc27, h⟩ := b1_some h
      refine v_callVv (c := 11) F dX11_countFirsts_151 cv_X11_752 rfl (PB.ob hp hX (Nat.le_of_ble_eq_true rfl)) (Nat.le_of_ble_eq_true rfl) rfl (vm_X11_partyOf hp hc27) rfl (rOk.of rfl) ?_
      refine v_dup2_IA F dX11_countFirsts_154 ?_
      obtain ⟨hi28, h⟩ := ck_some h
      refine v_iald F dX11_countFirsts_155 (ar_X11_149 hX hp) hi28 ?_
      refine v_iconst F dX11_countFirsts_156 ⟨by decide, by decide⟩ ?_
      refine v_iadd F dX11_countFirsts_157 ?_
      obtain ⟨d29, ed29, h⟩ := sd_some h
      refine v_iast F dX11_countFirsts_158 (ar_X11_149 hX hp) hi28 ?_
      refine v_nD ed29 ?_
      obtain ⟨x30, ex30, h⟩ := lv_some h
      refine v_iincN F dX11_countFirsts_159 (Nat.le_of_ble_eq_true rfl) rfl ex30 (L' := [mA 1545, mI a1, mI v2, mI x30]) rfl ?_
      refine v_goto F dX11_countFirsts_162 rfl ?_
      cases h
      exact K
theorem fX11_countFirsts_86_ok {w : Wd} {l : Launch} {G : Cx} {d m dd : Dt} {a1 v2 v3 : Int} {d' : Dt} {x : ((Dt × Int) ⊕ Dt)} (F : Fx w G cX11_countFirsts RX11 4 none { frames := 5, cells := 0, slots := 0, locals := 117 }) (hX : WF dd m) (hp : PB m 1545 11) (h : fX11_countFirsts_86 d a1 v2 v3 = some x) (K : (Sum.elim (fX11_countFirsts_49P w l G (QM w G WF none d' m 0 0) m a1) (fun q => q = d')) x) : V w l WF G (QM w G WF none d' m 0 0) d m 0 0 86 [mA 1545, mI a1, mI v2, mI v3] [] := by
  unfold fX11_countFirsts_86 at h
  exact loop_ok (P := fX11_countFirsts_86P w l G (QM w G WF none d' m 0 0) m a1 v2) (fun s x hx h1 h2 => fX11_countFirsts_86f_ok F hX hp hx (by
    cases x with
    | inl s' => exact h1 s' rfl
    | inr z => cases h2 z rfl; exact K)) h
theorem fX11_countFirsts_49f_ok {w : Wd} {l : Launch} {G : Cx} {m dd : Dt} {a1 : Int} {d' : Dt} {s : Dt × Int} {x : ((Dt × Int) ⊕ Dt)} (F : Fx w G cX11_countFirsts RX11 4 none { frames := 5, cells := 0, slots := 0, locals := 117 }) (hX : WF dd m) (hp : PB m 1545 11) (h : fX11_countFirsts_49f a1 s = some x) (K : (Sum.elim (fX11_countFirsts_49P w l G (QM w G WF none d' m 0 0) m a1) (fun q => q = d')) x) : V w l WF G (QM w G WF none d' m 0 0) s.1 m 0 0 49 [mA 1545, mI a1, mI (s.2), mU] [] := by
  obtain ⟨d, v2⟩ := s
  unfold fX11_countFirsts_49f at h
  dsimp only at h
  refine v_iload_n F dX11_countFirsts_49 rfl rfl ?_
  refine v_aload_n F dX11_countFirsts_50 rfl rfl ?_
  refine gf_X11_469 F dX11_countFirsts_51 hp ?_
  refine v_icmp_ge F dX11_countFirsts_54 rfl (fun hq4 => ?_) (fun hq4 => ?_)
  · rw [if_pos hq4] at h
    obtain ⟨z, hu, ez⟩ := up_some h
    clear h
    subst ez
    have h := hu
    clear hu
    cases h
    cases (show _ = d' from K)
    exact v_vret F dX11_countFirsts_171
  · rw [if_neg hq4] at h
    refine v_aload_n F dX11_countFirsts_57 rfl rfl ?_
    refine v_iload_n F dX11_countFirsts_58 rfl rfl ?_
    refine v_iconst F dX11_countFirsts_59 ⟨by decide, by decide⟩ ?_
    obtain ⟨x5, hc6, h⟩ := b1_some h
    refine v_callVv (c := 11) F dX11_countFirsts_60 cv_X11_485 rfl (PB.ob hp hX (Nat.le_of_ble_eq_true rfl)) (Nat.le_of_ble_eq_true rfl) rfl (vm_X11_contestIs hp hc6) rfl (rOk.of rfl) ?_
    refine v_if_eq F dX11_countFirsts_63 rfl (fun hq7 => ?_) (fun hq7 => ?_)
    · rw [if_pos hq7] at h
      refine v_aload_n F dX11_countFirsts_69 rfl rfl ?_
      refine v_iload_n F dX11_countFirsts_70 rfl rfl ?_
      refine v_iload_n F dX11_countFirsts_71 rfl rfl ?_
      obtain ⟨d8, hc9, h⟩ := bd_some h
      refine v_callV0 (c := 11) F dX11_countFirsts_72 cv_X11_844 rfl (PB.ob hp hX (Nat.le_of_ble_eq_true rfl)) (Nat.le_of_ble_eq_true rfl) rfl (vm_X11_gather hp hc9) rfl (rOk.of rfl) ?_
      refine v_aload_n F dX11_countFirsts_75 rfl rfl ?_
      refine v_iconst F dX11_countFirsts_76 ⟨by decide, by decide⟩ ?_
      obtain ⟨d10, hc11, h⟩ := bd_some h
      refine v_callV0 (c := 11) F dX11_countFirsts_77 cv_X11_865 rfl (PB.ob hp hX (Nat.le_of_ble_eq_true rfl)) (Nat.le_of_ble_eq_true rfl) rfl (vm_X11_votesByMarks hp hc11) rfl (rOk.of rfl) ?_
      refine v_aload_n F dX11_countFirsts_80 rfl rfl ?_
      obtain ⟨d12, hc13, h⟩ := bd_some h
      refine v_callV0 (c := 11) F dX11_countFirsts_81 cv_X11_871 rfl (PB.ob hp hX (Nat.le_of_ble_eq_true rfl)) (Nat.le_of_ble_eq_true rfl) rfl (vm_X11_orderByVotes hp hc13) rfl (rOk.of rfl) ?_
      refine v_iconst F dX11_countFirsts_84 ⟨by decide, by decide⟩ ?_
      refine v_istore_n F dX11_countFirsts_85 rfl (Nat.le_of_ble_eq_true rfl) (L' := [mA 1545, mI a1, mI v2, mI 0]) rfl ?_
      exact fX11_countFirsts_86_ok F hX hp h K
    · rw [if_neg hq7] at h
      refine v_goto F dX11_countFirsts_66 rfl ?_
      obtain ⟨x31, ex31, h⟩ := lv_some h
      refine v_iincN F dX11_countFirsts_165 (Nat.le_of_ble_eq_true rfl) rfl ex31 (L' := [mA 1545, mI a1, mI x31, mU]) rfl ?_
      refine v_goto F dX11_countFirsts_168 rfl ?_
      cases h
      exact K
theorem fX11_countFirsts_49_ok {w : Wd} {l : Launch} {G : Cx} {d m dd : Dt} {a1 v2 : Int} {d' : Dt} {x : Dt} (F : Fx w G cX11_countFirsts RX11 4 none { frames := 5, cells := 0, slots := 0, locals := 117 }) (hX : WF dd m) (hp : PB m 1545 11) (h : fX11_countFirsts_49 d a1 v2 = some x) (K : (fun q => q = d') x) : V w l WF G (QM w G WF none d' m 0 0) d m 0 0 49 [mA 1545, mI a1, mI v2, mU] [] := by
  unfold fX11_countFirsts_49 at h
  exact loop_ok (P := fX11_countFirsts_49P w l G (QM w G WF none d' m 0 0) m a1) (fun s x hx h1 h2 => fX11_countFirsts_49f_ok F hX hp hx (by
    cases x with
    | inl s' => exact h1 s' rfl
    | inr z => cases h2 z rfl; exact K)) h
theorem fX11_countFirsts_28f_ok {w : Wd} {l : Launch} {G : Cx} {m dd : Dt} {a1 : Int} {d' : Dt} {s : Dt × Int} {x : ((Dt × Int) ⊕ Dt)} (F : Fx w G cX11_countFirsts RX11 4 none { frames := 5, cells := 0, slots := 0, locals := 117 }) (hX : WF dd m) (hp : PB m 1545 11) (h : fX11_countFirsts_28f a1 s = some x) (K : (Sum.elim (fX11_countFirsts_28P w l G (QM w G WF none d' m 0 0) m a1) (fun q => q = d')) x) : V w l WF G (QM w G WF none d' m 0 0) s.1 m 0 0 28 [mA 1545, mI a1, mI (s.2), mU] [] := by
  obtain ⟨d, v2⟩ := s
  unfold fX11_countFirsts_28f at h
  dsimp only at h
  refine v_iload_n F dX11_countFirsts_28 rfl rfl ?_
  refine v_bipush F dX11_countFirsts_29 rfl ⟨by decide, by decide⟩ ?_
  refine v_icmp_ge F dX11_countFirsts_31 rfl (fun hq3 => ?_) (fun hq3 => ?_)
  · rw [if_pos hq3] at h
    obtain ⟨z, hu, ez⟩ := up_some h
    clear h
    subst ez
    have h := hu
    clear hu
    refine v_iconst F dX11_countFirsts_47 ⟨by decide, by decide⟩ ?_
    refine v_istore_n F dX11_countFirsts_48 rfl (Nat.le_of_ble_eq_true rfl) (L' := [mA 1545, mI a1, mI 0, mU]) rfl ?_
    exact fX11_countFirsts_49_ok F hX hp h K
  · rw [if_neg hq3] at h
    refine v_aload_n F dX11_countFirsts_34 rfl rfl ?_
    refine gf_X11_1048 F dX11_countFirsts_35 hp (v := 1652) rfl ?_
    refine v_iload_n F dX11_countFirsts_38 rfl rfl ?_
    refine v_iconst F dX11_countFirsts_39 ⟨by decide, by decide⟩ ?_
    obtain ⟨hi32, h⟩ := ck_some h
    obtain ⟨d33, ed33, h⟩ := sd_some h
    refine v_zast F dX11_countFirsts_40 (ar_X11_150 hX hp) hi32 ?_
    refine v_nD ed33 ?_
    obtain ⟨x34, ex34, h⟩ := lv_some h
    refine v_iincN F dX11_countFirsts_41 (Nat.le_of_ble_eq_true rfl) rfl ex34 (L' := [mA 1545, mI a1, mI x34, mU]) rfl ?_
    refine v_goto F dX11_countFirsts_44 rfl ?_
    cases h
    exact K
theorem fX11_countFirsts_28_ok {w : Wd} {l : Launch} {G : Cx} {d m dd : Dt} {a1 v2 : Int} {d' : Dt} {x : Dt} (F : Fx w G cX11_countFirsts RX11 4 none { frames := 5, cells := 0, slots := 0, locals := 117 }) (hX : WF dd m) (hp : PB m 1545 11) (h : fX11_countFirsts_28 d a1 v2 = some x) (K : (fun q => q = d') x) : V w l WF G (QM w G WF none d' m 0 0) d m 0 0 28 [mA 1545, mI a1, mI v2, mU] [] := by
  unfold fX11_countFirsts_28 at h
  exact loop_ok (P := fX11_countFirsts_28P w l G (QM w G WF none d' m 0 0) m a1) (fun s x hx h1 h2 => fX11_countFirsts_28f_ok F hX hp hx (by
    cases x with
    | inl s' => exact h1 s' rfl
    | inr z => cases h2 z rfl; exact K)) h
theorem fX11_countFirsts_7f_ok {w : Wd} {l : Launch} {G : Cx} {m dd : Dt} {a1 : Int} {d' : Dt} {s : Dt × Int} {x : ((Dt × Int) ⊕ Dt)} (F : Fx w G cX11_countFirsts RX11 4 none { frames := 5, cells := 0, slots := 0, locals := 117 }) (hX : WF dd m) (hp : PB m 1545 11) (h : fX11_countFirsts_7f a1 s = some x) (K : (Sum.elim (fX11_countFirsts_7P w l G (QM w G WF none d' m 0 0) m a1) (fun q => q = d')) x) : V w l WF G (QM w G WF none d' m 0 0) s.1 m 0 0 7 [mA 1545, mI a1, mI (s.2), mU] [] := by
  obtain ⟨d, v2⟩ := s
  unfold fX11_countFirsts_7f at h
  dsimp only at h
  refine v_iload_n F dX11_countFirsts_7 rfl rfl ?_
  refine v_bipush F dX11_countFirsts_8 rfl ⟨by decide, by decide⟩ ?_
  refine v_icmp_ge F dX11_countFirsts_10 rfl (fun hq2 => ?_) (fun hq2 => ?_)
  · rw [if_pos hq2] at h
    obtain ⟨z, hu, ez⟩ := up_some h
    clear h
    subst ez
    have h := hu
    clear hu
    refine v_iconst F dX11_countFirsts_26 ⟨by decide, by decide⟩ ?_
    refine v_istore_n F dX11_countFirsts_27 rfl (Nat.le_of_ble_eq_true rfl) (L' := [mA 1545, mI a1, mI 0, mU]) rfl ?_
    exact fX11_countFirsts_28_ok F hX hp h K
  · rw [if_neg hq2] at h
    refine v_aload_n F dX11_countFirsts_13 rfl rfl ?_
    refine gf_X11_1045 F dX11_countFirsts_14 hp (v := 1651) rfl ?_
    refine v_iload_n F dX11_countFirsts_17 rfl rfl ?_
    refine v_iconst F dX11_countFirsts_18 ⟨by decide, by decide⟩ ?_
    obtain ⟨hi35, h⟩ := ck_some h
    obtain ⟨d36, ed36, h⟩ := sd_some h
    refine v_iast F dX11_countFirsts_19 (ar_X11_149 hX hp) hi35 ?_
    refine v_nD ed36 ?_
    obtain ⟨x37, ex37, h⟩ := lv_some h
    refine v_iincN F dX11_countFirsts_20 (Nat.le_of_ble_eq_true rfl) rfl ex37 (L' := [mA 1545, mI a1, mI x37, mU]) rfl ?_
    refine v_goto F dX11_countFirsts_23 rfl ?_
    cases h
    exact K
theorem fX11_countFirsts_7_ok {w : Wd} {l : Launch} {G : Cx} {d m dd : Dt} {a1 v2 : Int} {d' : Dt} {x : Dt} (F : Fx w G cX11_countFirsts RX11 4 none { frames := 5, cells := 0, slots := 0, locals := 117 }) (hX : WF dd m) (hp : PB m 1545 11) (h : fX11_countFirsts_7 d a1 v2 = some x) (K : (fun q => q = d') x) : V w l WF G (QM w G WF none d' m 0 0) d m 0 0 7 [mA 1545, mI a1, mI v2, mU] [] := by
  unfold fX11_countFirsts_7 at h
  exact loop_ok (P := fX11_countFirsts_7P w l G (QM w G WF none d' m 0 0) m a1) (fun s x hx h1 h2 => fX11_countFirsts_7f_ok F hX hp hx (by
    cases x with
    | inl s' => exact h1 s' rfl
    | inr z => cases h2 z rfl; exact K)) h
theorem vm_X11_countFirsts {w : Wd} {l : Launch} {d m : Dt} {a1 : Int} {d' : Dt} (hp : PB m 1545 11) (h : fX11_countFirsts d a1 = some d') : VM w l WF yX11_countFirsts cX11_countFirsts 4 none 5 117 0 0 d m [mA 1545, mI a1] none d' m := by
  obtain ⟨x, h, K⟩ : ∃ x, fX11_countFirsts d a1 = some x ∧ x = d' := ⟨_, h, rfl⟩
  refine VM.of (L := [mA 1545, mI a1, mU, mU]) (by decide +kernel) rfl (Nat.le_of_ble_eq_true rfl) fun G F _ => v_fact fun _ hX _ _ => ?_
  unfold fX11_countFirsts at h
  refine v_aload_n F dX11_countFirsts_0 rfl rfl ?_
  refine v_iconst F dX11_countFirsts_1 ⟨by decide, by decide⟩ ?_
  obtain ⟨d1, ed1, h⟩ := sd_some h
  refine pf_X11_1042 F dX11_countFirsts_2 hp ?_
  refine v_nD ed1 ?_
  refine v_iconst F dX11_countFirsts_5 ⟨by decide, by decide⟩ ?_
  refine v_istore_n F dX11_countFirsts_6 rfl (Nat.le_of_ble_eq_true rfl) (L' := [mA 1545, mI a1, mI 0, mU]) rfl ?_
  exact fX11_countFirsts_7_ok F hX hp h K
def fX11_makeLists_7P (w : Wd) (l : Launch) (G : Cx) (Q : State → Prop) (m : Dt) (s : Dt × Int) : Prop := V w l WF G Q s.1 m 0 0 7 [mA 1545, mI (s.2), mU, mU, mU] []
def fX11_makeLists_155P (w : Wd) (l : Launch) (G : Cx) (Q : State → Prop) (m : Dt) (s : Dt × Int) : Prop := V w l WF G Q s.1 m 0 0 155 [mA 1545, mI (s.2), mU, mU, mU] []
def fX11_makeLists_247P (w : Wd) (l : Launch) (G : Cx) (Q : State → Prop) (m : Dt) (v1 v2 : Int) (s : Dt × Int × Int) : Prop := V w l WF G Q s.1 m 0 0 247 [mA 1545, mI v1, mI v2, mI (s.2.1), mI (s.2.2)] []
def fX11_makeLists_309P (w : Wd) (l : Launch) (G : Cx) (Q : State → Prop) (m : Dt) (v3 : Int) (s : Dt × Int) : Prop := V w l WF G Q s.1 m 0 0 309 [mA 1545, mU, mU, mI v3, mI (s.2)] []
theorem fX11_makeLists_309f_ok {w : Wd} {l : Launch} {G : Cx} {m dd : Dt} {v3 : Int} {d' : Dt} {s : Dt × Int} {x : ((Dt × Int) ⊕ Dt)} (F : Fx w G cX11_makeLists RX11 5 none { frames := 1, cells := 0, slots := 0, locals := 22 }) (hX : WF dd m) (hp : PB m 1545 11) (h : fX11_makeLists_309f v3 s = some x) (K : (Sum.elim (fX11_makeLists_309P w l G (QM w G WF none d' m 0 0) m v3) (fun q => q = d')) x) : V w l WF G (QM w G WF none d' m 0 0) s.1 m 0 0 309 [mA 1545, mU, mU, mI v3, mI (s.2)] [] := by
  obtain ⟨d, v4⟩ := s
  unfold fX11_makeLists_309f at h
  dsimp only at h
  refine v_iload F dX11_makeLists_309 rfl ?_
  refine v_aload_n F dX11_makeLists_311 rfl rfl ?_
  refine gf_X11_1054 F dX11_makeLists_312 hp ?_
  refine v_icmp_ge F dX11_makeLists_315 rfl (fun hq9 => ?_) (fun hq9 => ?_)
  · rw [if_pos hq9] at h
    obtain ⟨z, hu, ez⟩ := up_some h
    clear h
    subst ez
    have h := hu
    clear hu
    cases h
    cases (show _ = d' from K)
    exact v_vret F dX11_makeLists_336
  · rw [if_neg hq9] at h
    refine v_iload_n F dX11_makeLists_318 rfl rfl ?_
    refine v_if_ne F dX11_makeLists_319 rfl (fun hq10 => ?_) (fun hq10 => ?_)
    · rw [if_neg hq10] at h
      obtain ⟨z, hu, ez⟩ := up_some h
      clear h
      subst ez
      have h := hu
      clear hu
      cases h
      cases (show _ = d' from K)
      exact v_vret F dX11_makeLists_336
    · rw [if_pos hq10] at h
      refine v_aload_n F dX11_makeLists_322 rfl rfl ?_
      refine gf_X11_1072 F dX11_makeLists_323 hp (v := 1645) rfl ?_
      refine v_iload F dX11_makeLists_326 rfl ?_
      refine v_iconst F dX11_makeLists_328 ⟨by decide, by decide⟩ ?_
      obtain ⟨hi11, h⟩ := ck_some h
      obtain ⟨d12, ed12, h⟩ := sd_some h
      refine v_zast F dX11_makeLists_329 (ar_X11_142 hX hp) hi11 ?_
      refine v_nD ed12 ?_
      obtain ⟨x13, ex13, h⟩ := lv_some h
      refine v_iincN F dX11_makeLists_330 (Nat.le_of_ble_eq_true rfl) rfl ex13 (L' := [mA 1545, mU, mU, mI v3, mI x13]) rfl ?_
      refine v_goto F dX11_makeLists_333 rfl ?_
      cases h
      exact K
theorem fX11_makeLists_309_ok {w : Wd} {l : Launch} {G : Cx} {d m dd : Dt} {v3 v4 : Int} {d' : Dt} {x : Dt} (F : Fx w G cX11_makeLists RX11 5 none { frames := 1, cells := 0, slots := 0, locals := 22 }) (hX : WF dd m) (hp : PB m 1545 11) (h : fX11_makeLists_309 d v3 v4 = some x) (K : (fun q => q = d') x) : V w l WF G (QM w G WF none d' m 0 0) d m 0 0 309 [mA 1545, mU, mU, mI v3, mI v4] [] := by
  unfold fX11_makeLists_309 at h
  exact loop_ok (P := fX11_makeLists_309P w l G (QM w G WF none d' m 0 0) m v3) (fun s x hx h1 h2 => fX11_makeLists_309f_ok F hX hp hx (by
    cases x with
    | inl s' => exact h1 s' rfl
    | inr z => cases h2 z rfl; exact K)) h
theorem fX11_makeLists_289_ok {w : Wd} {l : Launch} {G : Cx} {d m dd : Dt} {v1 v2 v3 v4 s1 s2 : Int} {d' : Dt} {x : ((Dt × Int × Int) ⊕ Dt)} (F : Fx w G cX11_makeLists RX11 5 none { frames := 1, cells := 0, slots := 0, locals := 22 }) (hX : WF dd m) (hp : PB m 1545 11) (h : fX11_makeLists_289 d v1 v2 v3 v4 s1 s2 = some x) (K : (Sum.elim (fX11_makeLists_247P w l G (QM w G WF none d' m 0 0) m v1 v2) (fun q => q = d')) x) : V w l WF G (QM w G WF none d' m 0 0) d m 0 0 289 [mA 1545, mI v1, mI v2, mI v3, mI v4] [mI s2, mI s1, mA 1645] := by
  unfold fX11_makeLists_289 at h
  obtain ⟨hi15, h⟩ := ck_some h
  obtain ⟨d16, ed16, h⟩ := sd_some h
  refine v_zast F dX11_makeLists_289 (ar_X11_142 hX hp) hi15 ?_
  refine v_nD ed16 ?_
  refine v_iload_n F dX11_makeLists_290 rfl rfl ?_
  refine v_aload_n F dX11_makeLists_291 rfl rfl ?_
  refine gf_X11_1072 F dX11_makeLists_292 hp (v := 1645) rfl ?_
  refine v_iload F dX11_makeLists_295 rfl ?_
  obtain ⟨hi17, h⟩ := ck_some h
  refine v_zald F dX11_makeLists_297 (ar_X11_142 hX hp) hi17 ?_
  refine v_ior F dX11_makeLists_298 ?_
  obtain ⟨x18, ex18, h⟩ := lv_some h
  refine v_nI ex18 ?_
  refine v_istore_n F dX11_makeLists_299 rfl (Nat.le_of_ble_eq_true rfl) (L' := [mA 1545, mI v1, mI v2, mI x18, mI v4]) rfl ?_
  obtain ⟨x19, ex19, h⟩ := lv_some h
  refine v_iincN F dX11_makeLists_300 (Nat.le_of_ble_eq_true rfl) rfl ex19 (L' := [mA 1545, mI v1, mI v2, mI x18, mI x19]) rfl ?_
  refine v_goto F dX11_makeLists_303 rfl ?_
  cases h
  exact K
theorem fX11_makeLists_247f_ok {w : Wd} {l : Launch} {G : Cx} {m dd : Dt} {v1 v2 : Int} {d' : Dt} {s : Dt × Int × Int} {x : ((Dt × Int × Int) ⊕ Dt)} (F : Fx w G cX11_makeLists RX11 5 none { frames := 1, cells := 0, slots := 0, locals := 22 }) (hX : WF dd m) (hp : PB m 1545 11) (h : fX11_makeLists_247f v1 v2 s = some x) (K : (Sum.elim (fX11_makeLists_247P w l G (QM w G WF none d' m 0 0) m v1 v2) (fun q => q = d')) x) : V w l WF G (QM w G WF none d' m 0 0) s.1 m 0 0 247 [mA 1545, mI v1, mI v2, mI (s.2.1), mI (s.2.2)] [] := by
  obtain ⟨d, v3, v4⟩ := s
  unfold fX11_makeLists_247f at h
  dsimp only at h
  refine v_iload F dX11_makeLists_247 rfl ?_
  refine v_aload_n F dX11_makeLists_249 rfl rfl ?_
  refine gf_X11_1054 F dX11_makeLists_250 hp ?_
  refine v_icmp_ge F dX11_makeLists_253 rfl (fun hq8 => ?_) (fun hq8 => ?_)
  · rw [if_pos hq8] at h
    obtain ⟨z, hu, ez⟩ := up_some h
    clear h
    subst ez
    have h := hu
    clear hu
    refine v_iconst F dX11_makeLists_306 ⟨by decide, by decide⟩ ?_
    refine v_istore F dX11_makeLists_307 (Nat.le_of_ble_eq_true rfl) (L' := [mA 1545, mI v1, mI v2, mI v3, mI 0]) rfl ?_
    refine v_fgt (L' := [mA 1545, mU, mU, mI v3, mI 0]) ⟨Or.inl rfl, Or.inr rfl, Or.inr rfl, Or.inl rfl, Or.inl rfl, trivial⟩ ?_
    exact fX11_makeLists_309_ok F hX hp h K
  · rw [if_neg hq8] at h
    refine v_aload_n F dX11_makeLists_256 rfl rfl ?_
    refine gf_X11_1072 F dX11_makeLists_257 hp (v := 1645) rfl ?_
    refine v_iload F dX11_makeLists_260 rfl ?_
    refine v_iload_n F dX11_makeLists_262 rfl rfl ?_
    refine v_if_eq F dX11_makeLists_263 rfl (fun hq14 => ?_) (fun hq14 => ?_)
    · rw [if_pos hq14] at h
      refine v_iconst F dX11_makeLists_284 ⟨by decide, by decide⟩ ?_
      refine v_goto F dX11_makeLists_285 rfl ?_
      exact fX11_makeLists_289_ok F hX hp h K
    · rw [if_neg hq14] at h
      refine v_aload_n F dX11_makeLists_266 rfl rfl ?_
      refine gf_X11_1063 F dX11_makeLists_267 hp (v := 1643) rfl ?_
      refine v_iload F dX11_makeLists_270 rfl ?_
      obtain ⟨hi20, h⟩ := ck_some h
      refine v_iald F dX11_makeLists_272 (ar_X11_140 hX hp) hi20 ?_
      refine v_iload_n F dX11_makeLists_273 rfl rfl ?_
      refine v_imul F dX11_makeLists_274 ?_
      refine v_iload_n F dX11_makeLists_275 rfl rfl ?_
      refine v_aload_n F dX11_makeLists_276 rfl rfl ?_
      refine gf_X11_767 F dX11_makeLists_277 hp ?_
      refine v_imul F dX11_makeLists_280 ?_
      refine v_icmp_lt F dX11_makeLists_281 rfl (fun hq21 => ?_) (fun hq21 => ?_)
      · rw [if_pos hq21] at h
        refine v_iconst F dX11_makeLists_288 ⟨by decide, by decide⟩ ?_
        exact fX11_makeLists_289_ok F hX hp h K
      · rw [if_neg hq21] at h
        refine v_iconst F dX11_makeLists_284 ⟨by decide, by decide⟩ ?_
        refine v_goto F dX11_makeLists_285 rfl ?_
        exact fX11_makeLists_289_ok F hX hp h K
theorem fX11_makeLists_247_ok {w : Wd} {l : Launch} {G : Cx} {d m dd : Dt} {v1 v2 v3 v4 : Int} {d' : Dt} {x : Dt} (F : Fx w G cX11_makeLists RX11 5 none { frames := 1, cells := 0, slots := 0, locals := 22 }) (hX : WF dd m) (hp : PB m 1545 11) (h : fX11_makeLists_247 d v1 v2 v3 v4 = some x) (K : (fun q => q = d') x) : V w l WF G (QM w G WF none d' m 0 0) d m 0 0 247 [mA 1545, mI v1, mI v2, mI v3, mI v4] [] := by
  unfold fX11_makeLists_247 at h
  exact loop_ok (P := fX11_makeLists_247P w l G (QM w G WF none d' m 0 0) m v1 v2) (fun s x hx h1 h2 => fX11_makeLists_247f_ok F hX hp hx (by
    cases x with
    | inl s' => exact h1 s' rfl
    | inr z => cases h2 z rfl; exact K)) h
def fX11_makeLists_167P (w : Wd) (l : Launch) (G : Cx) (Q : State → Prop) (m : Dt) (d : Dt) (v1 : Int) (s : Int × Int) : Prop := V w l WF G Q d m 0 0 167 [mA 1545, mI v1, mI (s.1), mI (s.2), mU] []
theorem fX11_makeLists_167f_ok {w : Wd} {l : Launch} {G : Cx} {d m dd : Dt} {v1 : Int} {d' : Dt} {s : Int × Int} {x : ((Int × Int) ⊕ ((Dt × Int) ⊕ Dt))} (F : Fx w G cX11_makeLists RX11 5 none { frames := 1, cells := 0, slots := 0, locals := 22 }) (hX : WF dd m) (hp : PB m 1545 11) (h : fX11_makeLists_167f d v1 s = some x) (K : (Sum.elim (fX11_makeLists_167P w l G (QM w G WF none d' m 0 0) m d v1) (Sum.elim (fX11_makeLists_155P w l G (QM w G WF none d' m 0 0) m) (fun q => q = d'))) x) : V w l WF G (QM w G WF none d' m 0 0) d m 0 0 167 [mA 1545, mI v1, mI (s.1), mI (s.2), mU] [] := by
  obtain ⟨v2, v3⟩ := s
  unfold fX11_makeLists_167f at h
  dsimp only at h
  refine v_iload_n F dX11_makeLists_167 rfl rfl ?_
  refine v_aload_n F dX11_makeLists_168 rfl rfl ?_
  refine gf_X11_755 F dX11_makeLists_169 hp ?_
  refine v_icmp_ge F dX11_makeLists_172 rfl (fun hq22 => ?_) (fun hq22 => ?_)
  · rw [if_pos hq22] at h
    obtain ⟨z, hu, ez⟩ := up_some h
    clear h
    subst ez
    have h := hu
    clear hu
    refine v_aload_n F dX11_makeLists_206 rfl rfl ?_
    refine gf_X11_1063 F dX11_makeLists_207 hp (v := 1643) rfl ?_
    refine v_iload_n F dX11_makeLists_210 rfl rfl ?_
    refine v_dup2_IA F dX11_makeLists_211 ?_
    obtain ⟨hi23, h⟩ := ck_some h
    refine v_iald F dX11_makeLists_212 (ar_X11_140 hX hp) hi23 ?_
    refine v_iconst F dX11_makeLists_213 ⟨by decide, by decide⟩ ?_
    refine v_iadd F dX11_makeLists_214 ?_
    obtain ⟨d24, ed24, h⟩ := sd_some h
    refine v_iast F dX11_makeLists_215 (ar_X11_140 hX hp) hi23 ?_
    refine v_nD ed24 ?_
    obtain ⟨x25, ex25, h⟩ := lv_some h
    refine v_iincN F dX11_makeLists_216 (Nat.le_of_ble_eq_true rfl) rfl ex25 (L' := [mA 1545, mI x25, mI v2, mI v3, mU]) rfl ?_
    refine v_goto F dX11_makeLists_219 rfl ?_
    cases h
    refine v_fgt (L' := [mA 1545, mI x25, mU, mU, mU]) ⟨Or.inl rfl, Or.inl rfl, Or.inr rfl, Or.inr rfl, Or.inl rfl, trivial⟩ ?_
    exact K
  · rw [if_neg hq22] at h
    refine v_aload_n F dX11_makeLists_175 rfl rfl ?_
    refine gf_X11_780 F dX11_makeLists_176 hp (v := 1618) rfl ?_
    refine v_bipush F dX11_makeLists_179 rfl ⟨by decide, by decide⟩ ?_
    refine v_iload_n F dX11_makeLists_181 rfl rfl ?_
    refine v_imul F dX11_makeLists_182 ?_
    refine v_iload_n F dX11_makeLists_183 rfl rfl ?_
    refine v_iadd F dX11_makeLists_184 ?_
    obtain ⟨x26, ex26, h⟩ := lv_some h
    refine v_nI ex26 ?_
    obtain ⟨hi27, h⟩ := ck_some h
    refine v_iald F dX11_makeLists_185 (ar_X11_105 hX hp) hi27 ?_
    refine v_if_le F dX11_makeLists_186 rfl (fun hq28 => ?_) (fun hq28 => ?_)
    · rw [if_pos hq28] at h
      refine v_iload_n F dX11_makeLists_198 rfl rfl ?_
      refine v_istore_n F dX11_makeLists_199 rfl (Nat.le_of_ble_eq_true rfl) (L' := [mA 1545, mI v1, mI v2, mI v3, mU]) rfl ?_
      obtain ⟨x29, ex29, h⟩ := lv_some h
      refine v_iincN F dX11_makeLists_200 (Nat.le_of_ble_eq_true rfl) rfl ex29 (L' := [mA 1545, mI v1, mI v2, mI x29, mU]) rfl ?_
      refine v_goto F dX11_makeLists_203 rfl ?_
      cases h
      exact K
    · rw [if_neg hq28] at h
      refine v_aload_n F dX11_makeLists_189 rfl rfl ?_
      refine gf_X11_1069 F dX11_makeLists_190 hp (v := 1641) rfl ?_
      refine v_iload_n F dX11_makeLists_193 rfl rfl ?_
      obtain ⟨hi30, h⟩ := ck_some h
      refine v_iald F dX11_makeLists_194 (ar_X11_138 hX hp) hi30 ?_
      refine v_goto F dX11_makeLists_195 rfl ?_
      obtain ⟨x31, ex31, h⟩ := lv_some h
      refine v_nI ex31 ?_
      refine v_istore_n F dX11_makeLists_199 rfl (Nat.le_of_ble_eq_true rfl) (L' := [mA 1545, mI v1, mI x31, mI v3, mU]) rfl ?_
      obtain ⟨x32, ex32, h⟩ := lv_some h
      refine v_iincN F dX11_makeLists_200 (Nat.le_of_ble_eq_true rfl) rfl ex32 (L' := [mA 1545, mI v1, mI x31, mI x32, mU]) rfl ?_
      refine v_goto F dX11_makeLists_203 rfl ?_
      cases h
      exact K
theorem fX11_makeLists_167_ok {w : Wd} {l : Launch} {G : Cx} {d m dd : Dt} {v1 v2 v3 : Int} {d' : Dt} {x : ((Dt × Int) ⊕ Dt)} (F : Fx w G cX11_makeLists RX11 5 none { frames := 1, cells := 0, slots := 0, locals := 22 }) (hX : WF dd m) (hp : PB m 1545 11) (h : fX11_makeLists_167 d v1 v2 v3 = some x) (K : (Sum.elim (fX11_makeLists_155P w l G (QM w G WF none d' m 0 0) m) (fun q => q = d')) x) : V w l WF G (QM w G WF none d' m 0 0) d m 0 0 167 [mA 1545, mI v1, mI v2, mI v3, mU] [] := by
  unfold fX11_makeLists_167 at h
  exact loop_ok (P := fX11_makeLists_167P w l G (QM w G WF none d' m 0 0) m d v1) (fun s x hx h1 h2 => fX11_makeLists_167f_ok F hX hp hx (by
    cases x with
    | inl s' => exact h1 s' rfl
    | inr z => cases h2 z rfl; exact K)) h
theorem fX11_makeLists_155f_ok {w : Wd} {l : Launch} {G : Cx} {m dd : Dt} {d' : Dt} {s : Dt × Int} {x : ((Dt × Int) ⊕ Dt)} (F : Fx w G cX11_makeLists RX11 5 none { frames := 1, cells := 0, slots := 0, locals := 22 }) (hX : WF dd m) (hp : PB m 1545 11) (h : fX11_makeLists_155f s = some x) (K : (Sum.elim (fX11_makeLists_155P w l G (QM w G WF none d' m 0 0) m) (fun q => q = d')) x) : V w l WF G (QM w G WF none d' m 0 0) s.1 m 0 0 155 [mA 1545, mI (s.2), mU, mU, mU] [] := by
  obtain ⟨d, v1⟩ := s
  unfold fX11_makeLists_155f at h
  dsimp only at h
  refine v_iload_n F dX11_makeLists_155 rfl rfl ?_
  refine v_aload_n F dX11_makeLists_156 rfl rfl ?_
  refine gf_X11_767 F dX11_makeLists_157 hp ?_
  refine v_icmp_ge F dX11_makeLists_160 rfl (fun hq3 => ?_) (fun hq3 => ?_)
  · rw [if_pos hq3] at h
    obtain ⟨z, hu, ez⟩ := up_some h
    clear h
    subst ez
    have h := hu
    clear hu
    refine v_aload_n F dX11_makeLists_222 rfl rfl ?_
    refine v_aload_n F dX11_makeLists_223 rfl rfl ?_
    refine gf_X11_749 F dX11_makeLists_224 hp ?_
    refine v_iconst F dX11_makeLists_227 ⟨by decide, by decide⟩ ?_
    obtain ⟨x4, hc5, h⟩ := b1_some h
    refine v_callVv (c := 11) F dX11_makeLists_228 cv_X11_485 rfl (PB.ob hp hX (Nat.le_of_ble_eq_true rfl)) (Nat.le_of_ble_eq_true rfl) rfl (vm_X11_contestIs hp hc5) rfl (rOk.of rfl) ?_
    refine v_istore_n F dX11_makeLists_231 rfl (Nat.le_of_ble_eq_true rfl) (L' := [mA 1545, mI x4, mU, mU, mU]) rfl ?_
    refine v_aload_n F dX11_makeLists_232 rfl rfl ?_
    refine v_aload_n F dX11_makeLists_233 rfl rfl ?_
    refine gf_X11_749 F dX11_makeLists_234 hp ?_
    refine v_iconst F dX11_makeLists_237 ⟨by decide, by decide⟩ ?_
    obtain ⟨x6, hc7, h⟩ := b1_some h
    refine v_callVv (c := 11) F dX11_makeLists_238 cv_X11_485 rfl (PB.ob hp hX (Nat.le_of_ble_eq_true rfl)) (Nat.le_of_ble_eq_true rfl) rfl (vm_X11_contestIs hp hc7) rfl (rOk.of rfl) ?_
    refine v_istore_n F dX11_makeLists_241 rfl (Nat.le_of_ble_eq_true rfl) (L' := [mA 1545, mI x4, mI x6, mU, mU]) rfl ?_
    refine v_iconst F dX11_makeLists_242 ⟨by decide, by decide⟩ ?_
    refine v_istore_n F dX11_makeLists_243 rfl (Nat.le_of_ble_eq_true rfl) (L' := [mA 1545, mI x4, mI x6, mI 0, mU]) rfl ?_
    refine v_iconst F dX11_makeLists_244 ⟨by decide, by decide⟩ ?_
    refine v_istore F dX11_makeLists_245 (Nat.le_of_ble_eq_true rfl) (L' := [mA 1545, mI x4, mI x6, mI 0, mI 0]) rfl ?_
    exact fX11_makeLists_247_ok F hX hp h K
  · rw [if_neg hq3] at h
    refine v_iconst F dX11_makeLists_163 ⟨by decide, by decide⟩ ?_
    refine v_istore_n F dX11_makeLists_164 rfl (Nat.le_of_ble_eq_true rfl) (L' := [mA 1545, mI v1, mI (-1), mU, mU]) rfl ?_
    refine v_iconst F dX11_makeLists_165 ⟨by decide, by decide⟩ ?_
    refine v_istore_n F dX11_makeLists_166 rfl (Nat.le_of_ble_eq_true rfl) (L' := [mA 1545, mI v1, mI (-1), mI 0, mU]) rfl ?_
    exact fX11_makeLists_167_ok F hX hp h K
theorem fX11_makeLists_155_ok {w : Wd} {l : Launch} {G : Cx} {d m dd : Dt} {v1 : Int} {d' : Dt} {x : Dt} (F : Fx w G cX11_makeLists RX11 5 none { frames := 1, cells := 0, slots := 0, locals := 22 }) (hX : WF dd m) (hp : PB m 1545 11) (h : fX11_makeLists_155 d v1 = some x) (K : (fun q => q = d') x) : V w l WF G (QM w G WF none d' m 0 0) d m 0 0 155 [mA 1545, mI v1, mU, mU, mU] [] := by
  unfold fX11_makeLists_155 at h
  exact loop_ok (P := fX11_makeLists_155P w l G (QM w G WF none d' m 0 0) m) (fun s x hx h1 h2 => fX11_makeLists_155f_ok F hX hp hx (by
    cases x with
    | inl s' => exact h1 s' rfl
    | inr z => cases h2 z rfl; exact K)) h
def fX11_makeLists_44P (w : Wd) (l : Launch) (G : Cx) (Q : State → Prop) (m : Dt) (d : Dt) (v1 v2 : Int) (s : Int) : Prop := V w l WF G Q d m 0 0 44 [mA 1545, mI v1, mI v2, mI (s), mU] []
theorem fX11_makeLists_130_ok {w : Wd} {l : Launch} {G : Cx} {d m dd : Dt} {v1 v2 v3 : Int} {d' : Dt} {x : ((Dt × Int) ⊕ Dt)} (F : Fx w G cX11_makeLists RX11 5 none { frames := 1, cells := 0, slots := 0, locals := 22 }) (hX : WF dd m) (hp : PB m 1545 11) (h : fX11_makeLists_130 d v1 v2 v3 = some x) (K : (Sum.elim (fX11_makeLists_7P w l G (QM w G WF none d' m 0 0) m) (fun q => q = d')) x) : V w l WF G (QM w G WF none d' m 0 0) d m 0 0 130 [mA 1545, mI v1, mI v2, mI v3, mU] [] := by
  unfold fX11_makeLists_130 at h
  refine v_aload_n F dX11_makeLists_130 rfl rfl ?_
  refine gf_X11_1069 F dX11_makeLists_131 hp (v := 1641) rfl ?_
  refine v_iload_n F dX11_makeLists_134 rfl rfl ?_
  refine v_iload_n F dX11_makeLists_135 rfl rfl ?_
  obtain ⟨hi40, h⟩ := ck_some h
  obtain ⟨d41, ed41, h⟩ := sd_some h
  refine v_iast F dX11_makeLists_136 (ar_X11_138 hX hp) hi40 ?_
  refine v_nD ed41 ?_
  refine v_aload_n F dX11_makeLists_137 rfl rfl ?_
  refine gf_X11_1060 F dX11_makeLists_138 hp (v := 1644) rfl ?_
  refine v_iload_n F dX11_makeLists_141 rfl rfl ?_
  refine v_dup2_IA F dX11_makeLists_142 ?_
  obtain ⟨hi42, h⟩ := ck_some h
  refine v_iald F dX11_makeLists_143 (ar_X11_141 hX hp) hi42 ?_
  refine v_iconst F dX11_makeLists_144 ⟨by decide, by decide⟩ ?_
  refine v_iadd F dX11_makeLists_145 ?_
  obtain ⟨d43, ed43, h⟩ := sd_some h
  refine v_iast F dX11_makeLists_146 (ar_X11_141 hX hp) hi42 ?_
  refine v_nD ed43 ?_
  obtain ⟨x44, ex44, h⟩ := lv_some h
  refine v_iincN F dX11_makeLists_147 (Nat.le_of_ble_eq_true rfl) rfl ex44 (L' := [mA 1545, mI x44, mI v2, mI v3, mU]) rfl ?_
  refine v_goto F dX11_makeLists_150 rfl ?_
  cases h
  refine v_fgt (L' := [mA 1545, mI x44, mU, mU, mU]) ⟨Or.inl rfl, Or.inl rfl, Or.inr rfl, Or.inr rfl, Or.inl rfl, trivial⟩ ?_
  exact K
theorem fX11_makeLists_80_ok {w : Wd} {l : Launch} {G : Cx} {d m dd : Dt} {v1 v2 v3 : Int} {d' : Dt} {x : ((Dt × Int) ⊕ Dt)} (F : Fx w G cX11_makeLists RX11 5 none { frames := 1, cells := 0, slots := 0, locals := 22 }) (hX : WF dd m) (hp : PB m 1545 11) (h : fX11_makeLists_80 d v1 v2 v3 = some x) (K : (Sum.elim (fX11_makeLists_7P w l G (QM w G WF none d' m 0 0) m) (fun q => q = d')) x) : V w l WF G (QM w G WF none d' m 0 0) d m 0 0 80 [mA 1545, mI v1, mI v2, mI v3, mU] [] := by
  unfold fX11_makeLists_80 at h
  refine v_iload_n F dX11_makeLists_80 rfl rfl ?_
  refine v_aload_n F dX11_makeLists_81 rfl rfl ?_
  refine gf_X11_1054 F dX11_makeLists_82 hp ?_
  refine v_icmp_ne F dX11_makeLists_85 rfl (fun hq39 => ?_) (fun hq39 => ?_)
  · rw [if_neg hq39] at h
    exact fX11_makeLists_130_ok F hX hp h K
  · rw [if_pos hq39] at h
    refine v_aload_n F dX11_makeLists_88 rfl rfl ?_
    refine v_dup_A F dX11_makeLists_89 ?_
    refine gf_X11_1054 F dX11_makeLists_90 hp ?_
    refine v_iconst F dX11_makeLists_93 ⟨by decide, by decide⟩ ?_
    refine v_iadd F dX11_makeLists_94 ?_
    obtain ⟨d45, ed45, h⟩ := sd_some h
    refine pf_X11_1054 F dX11_makeLists_95 hp ?_
    refine v_nD ed45 ?_
    refine v_aload_n F dX11_makeLists_98 rfl rfl ?_
    refine gf_X11_1057 F dX11_makeLists_99 hp (v := 1642) rfl ?_
    refine v_iload_n F dX11_makeLists_102 rfl rfl ?_
    refine v_aload_n F dX11_makeLists_103 rfl rfl ?_
    refine v_iload_n F dX11_makeLists_104 rfl rfl ?_
    obtain ⟨x46, hc47, h⟩ := b1_some h
    refine v_callVv (c := 11) F dX11_makeLists_105 cv_X11_752 rfl (PB.ob hp hX (Nat.le_of_ble_eq_true rfl)) (Nat.le_of_ble_eq_true rfl) rfl (vm_X11_partyOf hp hc47) rfl (rOk.of rfl) ?_
    obtain ⟨hi48, h⟩ := ck_some h
    obtain ⟨d49, ed49, h⟩ := sd_some h
    refine v_iast F dX11_makeLists_108 (ar_X11_139 hX hp) hi48 ?_
    refine v_nD ed49 ?_
    refine v_aload_n F dX11_makeLists_109 rfl rfl ?_
    refine gf_X11_1060 F dX11_makeLists_110 hp (v := 1644) rfl ?_
    refine v_iload_n F dX11_makeLists_113 rfl rfl ?_
    refine v_iconst F dX11_makeLists_114 ⟨by decide, by decide⟩ ?_
    obtain ⟨d50, ed50, h⟩ := sd_some h
    refine v_iast F dX11_makeLists_115 (ar_X11_141 hX hp) hi48 ?_
    refine v_nD ed50 ?_
    refine v_aload_n F dX11_makeLists_116 rfl rfl ?_
    refine gf_X11_1063 F dX11_makeLists_117 hp (v := 1643) rfl ?_
    refine v_iload_n F dX11_makeLists_120 rfl rfl ?_
    refine v_iconst F dX11_makeLists_121 ⟨by decide, by decide⟩ ?_
    obtain ⟨d51, ed51, h⟩ := sd_some h
    refine v_iast F dX11_makeLists_122 (ar_X11_140 hX hp) hi48 ?_
    refine v_nD ed51 ?_
    refine v_aload_n F dX11_makeLists_123 rfl rfl ?_
    refine gf_X11_1066 F dX11_makeLists_124 hp (v := 1649) rfl ?_
    refine v_iload_n F dX11_makeLists_127 rfl rfl ?_
    refine v_iconst F dX11_makeLists_128 ⟨by decide, by decide⟩ ?_
    obtain ⟨d52, ed52, h⟩ := sd_some h
    refine v_iast F dX11_makeLists_129 (ar_X11_146 hX hp) hi48 ?_
    refine v_nD ed52 ?_
    exact fX11_makeLists_130_ok F hX hp h K
theorem fX11_makeLists_44f_ok {w : Wd} {l : Launch} {G : Cx} {d m dd : Dt} {v1 v2 : Int} {d' : Dt} {s : Int} {x : ((Int) ⊕ ((Dt × Int) ⊕ Dt))} (F : Fx w G cX11_makeLists RX11 5 none { frames := 1, cells := 0, slots := 0, locals := 22 }) (hX : WF dd m) (hp : PB m 1545 11) (h : fX11_makeLists_44f d v1 v2 s = some x) (K : (Sum.elim (fX11_makeLists_44P w l G (QM w G WF none d' m 0 0) m d v1 v2) (Sum.elim (fX11_makeLists_7P w l G (QM w G WF none d' m 0 0) m) (fun q => q = d'))) x) : V w l WF G (QM w G WF none d' m 0 0) d m 0 0 44 [mA 1545, mI v1, mI v2, mI (s), mU] [] := by
  obtain ⟨v3, rfl⟩ : ∃ z, z = s := ⟨s, rfl⟩
  unfold fX11_makeLists_44f at h
  dsimp only at h
  refine v_iload_n F dX11_makeLists_44 rfl rfl ?_
  refine v_aload_n F dX11_makeLists_45 rfl rfl ?_
  refine gf_X11_1054 F dX11_makeLists_46 hp ?_
  refine v_icmp_ge F dX11_makeLists_49 rfl (fun hq38 => ?_) (fun hq38 => ?_)
  · rw [if_pos hq38] at h
    obtain ⟨z, hu, ez⟩ := up_some h
    clear h
    subst ez
    have h := hu
    clear hu
    exact fX11_makeLists_80_ok F hX hp h K
  · rw [if_neg hq38] at h
    refine v_aload_n F dX11_makeLists_52 rfl rfl ?_
    refine v_iload_n F dX11_makeLists_53 rfl rfl ?_
    obtain ⟨x53, hc54, h⟩ := b1_some h
    refine v_callVv (c := 11) F dX11_makeLists_54 cv_X11_752 rfl (PB.ob hp hX (Nat.le_of_ble_eq_true rfl)) (Nat.le_of_ble_eq_true rfl) rfl (vm_X11_partyOf hp hc54) rfl (rOk.of rfl) ?_
    refine v_if_lt F dX11_makeLists_57 rfl (fun hq55 => ?_) (fun hq55 => ?_)
    · rw [if_pos hq55] at h
      obtain ⟨x56, ex56, h⟩ := lv_some h
      refine v_iincN F dX11_makeLists_74 (Nat.le_of_ble_eq_true rfl) rfl ex56 (L' := [mA 1545, mI v1, mI v2, mI x56, mU]) rfl ?_
      refine v_goto F dX11_makeLists_77 rfl ?_
      cases h
      exact K
    · rw [if_neg hq55] at h
      refine v_aload_n F dX11_makeLists_60 rfl rfl ?_
      refine gf_X11_1057 F dX11_makeLists_61 hp (v := 1642) rfl ?_
      refine v_iload_n F dX11_makeLists_64 rfl rfl ?_
      obtain ⟨hi57, h⟩ := ck_some h
      refine v_iald F dX11_makeLists_65 (ar_X11_139 hX hp) hi57 ?_
      refine v_aload_n F dX11_makeLists_66 rfl rfl ?_
      refine v_iload_n F dX11_makeLists_67 rfl rfl ?_
      obtain ⟨x58, hc59, h⟩ := b1_some h
      refine v_callVv (c := 11) F dX11_makeLists_68 cv_X11_752 rfl (PB.ob hp hX (Nat.le_of_ble_eq_true rfl)) (Nat.le_of_ble_eq_true rfl) rfl (vm_X11_partyOf hp hc59) rfl (rOk.of rfl) ?_
      refine v_icmp_eq F dX11_makeLists_71 rfl (fun hq60 => ?_) (fun hq60 => ?_)
      · rw [if_pos hq60] at h
        obtain ⟨z, hu, ez⟩ := up_some h
        clear h
        subst ez
        have h := hu
        clear hu
        exact fX11_makeLists_80_ok F hX hp h K
      · rw [if_neg hq60] at h
        obtain ⟨x61, ex61, h⟩ := lv_some h
        refine v_iincN F dX11_makeLists_74 (Nat.le_of_ble_eq_true rfl) rfl ex61 (L' := [mA 1545, mI v1, mI v2, mI x61, mU]) rfl ?_
        refine v_goto F dX11_makeLists_77 rfl ?_
        cases h
        exact K
theorem fX11_makeLists_44_ok {w : Wd} {l : Launch} {G : Cx} {d m dd : Dt} {v1 v2 v3 : Int} {d' : Dt} {x : ((Dt × Int) ⊕ Dt)} (F : Fx w G cX11_makeLists RX11 5 none { frames := 1, cells := 0, slots := 0, locals := 22 }) (hX : WF dd m) (hp : PB m 1545 11) (h : fX11_makeLists_44 d v1 v2 v3 = some x) (K : (Sum.elim (fX11_makeLists_7P w l G (QM w G WF none d' m 0 0) m) (fun q => q = d')) x) : V w l WF G (QM w G WF none d' m 0 0) d m 0 0 44 [mA 1545, mI v1, mI v2, mI v3, mU] [] := by
  unfold fX11_makeLists_44 at h
  exact loop_ok (P := fX11_makeLists_44P w l G (QM w G WF none d' m 0 0) m d v1 v2) (fun s x hx h1 h2 => fX11_makeLists_44f_ok F hX hp hx (by
    cases x with
    | inl s' => exact h1 s' rfl
    | inr z => cases h2 z rfl; exact K)) h
theorem fX11_makeLists_7f_ok {w : Wd} {l : Launch} {G : Cx} {m dd : Dt} {d' : Dt} {s : Dt × Int} {x : ((Dt × Int) ⊕ Dt)} (F : Fx w G cX11_makeLists RX11 5 none { frames := 1, cells := 0, slots := 0, locals := 22 }) (hX : WF dd m) (hp : PB m 1545 11) (h : fX11_makeLists_7f s = some x) (K : (Sum.elim (fX11_makeLists_7P w l G (QM w G WF none d' m 0 0) m) (fun q => q = d')) x) : V w l WF G (QM w G WF none d' m 0 0) s.1 m 0 0 7 [mA 1545, mI (s.2), mU, mU, mU] [] := by
  obtain ⟨d, v1⟩ := s
  unfold fX11_makeLists_7f at h
  dsimp only at h
  refine v_iload_n F dX11_makeLists_7 rfl rfl ?_
  refine v_aload_n F dX11_makeLists_8 rfl rfl ?_
  refine gf_X11_755 F dX11_makeLists_9 hp ?_
  refine v_icmp_ge F dX11_makeLists_12 rfl (fun hq2 => ?_) (fun hq2 => ?_)
  · rw [if_pos hq2] at h
    obtain ⟨z, hu, ez⟩ := up_some h
    clear h
    subst ez
    have h := hu
    clear hu
    refine v_iconst F dX11_makeLists_153 ⟨by decide, by decide⟩ ?_
    refine v_istore_n F dX11_makeLists_154 rfl (Nat.le_of_ble_eq_true rfl) (L' := [mA 1545, mI 0, mU, mU, mU]) rfl ?_
    exact fX11_makeLists_155_ok F hX hp h K
  · rw [if_neg hq2] at h
    refine v_aload_n F dX11_makeLists_15 rfl rfl ?_
    refine gf_X11_611 F dX11_makeLists_16 hp (v := 1592) rfl ?_
    refine v_bipush F dX11_makeLists_19 rfl ⟨by decide, by decide⟩ ?_
    refine v_aload_n F dX11_makeLists_21 rfl rfl ?_
    refine gf_X11_749 F dX11_makeLists_22 hp ?_
    refine v_imul F dX11_makeLists_25 ?_
    refine v_iload_n F dX11_makeLists_26 rfl rfl ?_
    refine v_iadd F dX11_makeLists_27 ?_
    obtain ⟨x33, ex33, h⟩ := lv_some h
    refine v_nI ex33 ?_
    obtain ⟨hi34, h⟩ := ck_some h
    refine v_iald F dX11_makeLists_28 (ar_X11_68 hX hp) hi34 ?_
    obtain ⟨x35, ex35, h⟩ := lv_some h
    refine v_nI ex35 ?_
    refine v_istore_n F dX11_makeLists_29 rfl (Nat.le_of_ble_eq_true rfl) (L' := [mA 1545, mI v1, mI x35, mU, mU]) rfl ?_
    refine v_aload_n F dX11_makeLists_30 rfl rfl ?_
    refine gf_X11_764 F dX11_makeLists_31 hp (v := 1617) rfl ?_
    refine v_iload_n F dX11_makeLists_34 rfl rfl ?_
    obtain ⟨hi36, h⟩ := ck_some h
    refine v_zald F dX11_makeLists_35 (ar_X11_101 hX hp) hi36 ?_
    refine v_if_ne F dX11_makeLists_36 rfl (fun hq37 => ?_) (fun hq37 => ?_)
    · rw [if_neg hq37] at h
      refine v_iconst F dX11_makeLists_42 ⟨by decide, by decide⟩ ?_
      refine v_istore_n F dX11_makeLists_43 rfl (Nat.le_of_ble_eq_true rfl) (L' := [mA 1545, mI v1, mI x35, mI 0, mU]) rfl ?_
      exact fX11_makeLists_44_ok F hX hp h K
    · rw [if_pos hq37] at h
      refine v_goto F dX11_makeLists_39 rfl ?_
      obtain ⟨x62, ex62, h⟩ := lv_some h
      refine v_iincN F dX11_makeLists_147 (Nat.le_of_ble_eq_true rfl) rfl ex62 (L' := [mA 1545, mI x62, mI x35, mU, mU]) rfl ?_
      refine v_goto F dX11_makeLists_150 rfl ?_
      cases h
      refine v_fgt (L' := [mA 1545, mI x62, mU, mU, mU]) ⟨Or.inl rfl, Or.inl rfl, Or.inr rfl, Or.inl rfl, Or.inl rfl, trivial⟩ ?_
      exact K
theorem fX11_makeLists_7_ok {w : Wd} {l : Launch} {G : Cx} {d m dd : Dt} {v1 : Int} {d' : Dt} {x : Dt} (F : Fx w G cX11_makeLists RX11 5 none { frames := 1, cells := 0, slots := 0, locals := 22 }) (hX : WF dd m) (hp : PB m 1545 11) (h : fX11_makeLists_7 d v1 = some x) (K : (fun q => q = d') x) : V w l WF G (QM w G WF none d' m 0 0) d m 0 0 7 [mA 1545, mI v1, mU, mU, mU] [] := by
  unfold fX11_makeLists_7 at h
  exact loop_ok (P := fX11_makeLists_7P w l G (QM w G WF none d' m 0 0) m) (fun s x hx h1 h2 => fX11_makeLists_7f_ok F hX hp hx (by
    cases x with
    | inl s' => exact h1 s' rfl
    | inr z => cases h2 z rfl; exact K)) h
theorem vm_X11_makeLists {w : Wd} {l : Launch} {d m : Dt} {d' : Dt} (hp : PB m 1545 11) (h : fX11_makeLists d = some d') : VM w l WF yX11_makeLists cX11_makeLists 5 none 1 22 0 0 d m [mA 1545] none d' m := by
  obtain ⟨x, h, K⟩ : ∃ x, fX11_makeLists d = some x ∧ x = d' := ⟨_, h, rfl⟩
  refine VM.of (L := [mA 1545, mU, mU, mU, mU]) (by decide +kernel) rfl (Nat.le_of_ble_eq_true rfl) fun G F _ => v_fact fun _ hX _ _ => ?_
  unfold fX11_makeLists at h
  refine v_aload_n F dX11_makeLists_0 rfl rfl ?_
  refine v_iconst F dX11_makeLists_1 ⟨by decide, by decide⟩ ?_
  obtain ⟨d1, ed1, h⟩ := sd_some h
  refine pf_X11_1054 F dX11_makeLists_2 hp ?_
  refine v_nD ed1 ?_
  refine v_iconst F dX11_makeLists_5 ⟨by decide, by decide⟩ ?_
  refine v_istore_n F dX11_makeLists_6 rfl (Nat.le_of_ble_eq_true rfl) (L' := [mA 1545, mI 0, mU, mU, mU]) rfl ?_
  exact fX11_makeLists_7_ok F hX hp h K
