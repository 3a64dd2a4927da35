set_option maxRecDepth 100000
set_option maxHeartbeats 4000000
theorem vm_J3_rotateRight {w : Wd} {l : Launch} {X : Dt → Dt → Prop} {d m : Dt} {a1 a2 : Int} : VM w l X yJ3_rotateRight cJ3_rotateRight 2 (some .int) 0 0 0 0 d m [mI a1, mI a2] (some (mI (fJ3_rotateRight a1 a2))) d m := by
  obtain ⟨r, hr⟩ : ∃ r, fJ3_rotateRight a1 a2 = r := ⟨_, rfl⟩
  rw [hr]
  obtain ⟨x, h, K⟩ : ∃ x, fJ3_rotateRight a1 a2 = x ∧ x = r := ⟨_, hr, rfl⟩
  refine VM.of (L := [mI a1, mI a2]) (by decide +kernel) rfl (Nat.le_of_ble_eq_true rfl) fun G F _ => ?_
  unfold fJ3_rotateRight at h
  refine v_iload_n F dJ3_rotateRight_0 rfl rfl ?_
  refine v_iload_n F dJ3_rotateRight_1 rfl rfl ?_
  refine v_iushr F dJ3_rotateRight_2 ?_
  refine v_iload_n F dJ3_rotateRight_3 rfl rfl ?_
  refine v_iload_n F dJ3_rotateRight_4 rfl rfl ?_
  refine v_ineg F dJ3_rotateRight_5 ?_
  refine v_ishl F dJ3_rotateRight_6 ?_
  refine v_ior F dJ3_rotateRight_7 ?_
  subst h
  cases (show _ = r from K)
  exact v_iret F dJ3_rotateRight_8
def fJ4_fill_5P (w : Wd) (l : Launch) (G : Cx) (Q : State → Prop) (m : Dt) (a1 n1 a2 v3 : Int) (s : Dt × Int) : Prop := V w l WF G Q s.1 m 0 0 5 [mA a1, mI a2, mI (s.2), mI v3] []
theorem fJ4_fill_5f_ok {w : Wd} {l : Launch} {G : Cx} {m dd : Dt} {a1 n1 a2 v3 : Int} {d' : Dt} {s : Dt × Int} {x : ((Dt × Int) ⊕ Dt)} (F : Fx w G cJ4_fill RJ4 4 none { frames := 0, cells := 0, slots := 0, locals := 0 }) (hX : WF dd m) (hp1 : AR m a1 103 n1) (h : fJ4_fill_5f a1 n1 a2 v3 s = some x) (K : (Sum.elim (fJ4_fill_5P w l G (QM w G WF none d' m 0 0) m a1 n1 a2 v3) (fun q => q = d')) x) : V w l WF G (QM w G WF none d' m 0 0) s.1 m 0 0 5 [mA a1, mI a2, mI (s.2), mI v3] [] := by
  obtain ⟨d, v2⟩ := s
  unfold fJ4_fill_5f at h
  dsimp only at h
  refine v_iload_n F dJ4_fill_5 rfl rfl ?_
  refine v_iload_n F dJ4_fill_6 rfl rfl ?_
  refine v_icmp_ge F dJ4_fill_7 rfl (fun hq1 => ?_) (fun hq1 => ?_)
  · rw [if_pos hq1] at h
    obtain ⟨z, hu, ez⟩ := up_some h
    clear h
    subst ez
    have h := hu
    clear hu
    cases h
    cases (show _ = d' from K)
    exact v_vret F dJ4_fill_20
  · rw [if_neg hq1] at h
    refine v_aload_n F dJ4_fill_10 rfl rfl ?_
    refine v_iload_n F dJ4_fill_11 rfl rfl ?_
    refine v_iload_n F dJ4_fill_12 rfl rfl ?_
    obtain ⟨hi2, h⟩ := ck_some h
    obtain ⟨d3, ed3, h⟩ := sd_some h
    refine v_zast F dJ4_fill_13 hp1 hi2 ?_
    refine v_nD ed3 ?_
    obtain ⟨x4, ex4, h⟩ := lv_some h
    refine v_iincN F dJ4_fill_14 (Nat.le_of_ble_eq_true rfl) rfl ex4 (L' := [mA a1, mI a2, mI x4, mI v3]) rfl ?_
    refine v_goto F dJ4_fill_17 rfl ?_
    cases h
    exact K
theorem fJ4_fill_5_ok {w : Wd} {l : Launch} {G : Cx} {d m dd : Dt} {a1 n1 a2 v2 v3 : Int} {d' : Dt} {x : Dt} (F : Fx w G cJ4_fill RJ4 4 none { frames := 0, cells := 0, slots := 0, locals := 0 }) (hX : WF dd m) (hp1 : AR m a1 103 n1) (h : fJ4_fill_5 d a1 n1 a2 v2 v3 = some x) (K : (fun q => q = d') x) : V w l WF G (QM w G WF none d' m 0 0) d m 0 0 5 [mA a1, mI a2, mI v2, mI v3] [] := by
  unfold fJ4_fill_5 at h
  exact loop_ok (P := fJ4_fill_5P w l G (QM w G WF none d' m 0 0) m a1 n1 a2 v3) (fun s x hx h1 h2 => fJ4_fill_5f_ok F hX hp1 hx (by
    cases x with
    | inl s' => exact h1 s' rfl
    | inr z => cases h2 z rfl; exact K)) h
theorem vm_J4_fill {w : Wd} {l : Launch} {d m : Dt} {a1 n1 a2 : Int} {d' : Dt} (hp1 : AR m a1 103 n1) (h : fJ4_fill d a1 n1 a2 = some d') : VM w l WF yJ4_fill cJ4_fill 4 none 0 0 0 0 d m [mA a1, mI a2] none d' m := by
  obtain ⟨x, h, K⟩ : ∃ x, fJ4_fill d a1 n1 a2 = some x ∧ x = d' := ⟨_, h, rfl⟩
  refine VM.of (L := [mA a1, mI a2, mU, mU]) (by decide +kernel) rfl (Nat.le_of_ble_eq_true rfl) fun G F _ => v_fact fun _ hX _ _ => ?_
  unfold fJ4_fill at h
  refine v_iconst F dJ4_fill_0 ⟨by decide, by decide⟩ ?_
  refine v_istore_n F dJ4_fill_1 rfl (Nat.le_of_ble_eq_true rfl) (L' := [mA a1, mI a2, mI 0, mU]) rfl ?_
  refine v_aload_n F dJ4_fill_2 rfl rfl ?_
  refine v_alen (t := 103) F dJ4_fill_3 hp1 (Nat.le_of_ble_eq_true rfl) rfl ?_
  refine v_istore_n F dJ4_fill_4 rfl (Nat.le_of_ble_eq_true rfl) (L' := [mA a1, mI a2, mI 0, mI n1]) rfl ?_
  exact fJ4_fill_5_ok F hX hp1 h K
def fJ4_fill_2_5P (w : Wd) (l : Launch) (G : Cx) (Q : State → Prop) (m : Dt) (a1 n1 a2 v3 : Int) (s : Dt × Int) : Prop := V w l WF G Q s.1 m 0 0 5 [mA a1, mI a2, mI (s.2), mI v3] []
theorem fJ4_fill_2_5f_ok {w : Wd} {l : Launch} {G : Cx} {m dd : Dt} {a1 n1 a2 v3 : Int} {d' : Dt} {s : Dt × Int} {x : ((Dt × Int) ⊕ Dt)} (F : Fx w G cJ4_fill_2 RJ4 4 none { frames := 0, cells := 0, slots := 0, locals := 0 }) (hX : WF dd m) (hp1 : AR m a1 101 n1) (h : fJ4_fill_2_5f a1 n1 a2 v3 s = some x) (K : (Sum.elim (fJ4_fill_2_5P w l G (QM w G WF none d' m 0 0) m a1 n1 a2 v3) (fun q => q = d')) x) : V w l WF G (QM w G WF none d' m 0 0) s.1 m 0 0 5 [mA a1, mI a2, mI (s.2), mI v3] [] := by
  obtain ⟨d, v2⟩ := s
  unfold fJ4_fill_2_5f at h
  dsimp only at h
  refine v_iload_n F dJ4_fill_2_5 rfl rfl ?_
  refine v_iload_n F dJ4_fill_2_6 rfl rfl ?_
  refine v_icmp_ge F dJ4_fill_2_7 rfl (fun hq1 => ?_) (fun hq1 => ?_)
  · rw [if_pos hq1] at h
    obtain ⟨z, hu, ez⟩ := up_some h
    clear h
    subst ez
    have h := hu
    clear hu
    cases h
    cases (show _ = d' from K)
    exact v_vret F dJ4_fill_2_20
  · rw [if_neg hq1] at h
    refine v_aload_n F dJ4_fill_2_10 rfl rfl ?_
    refine v_iload_n F dJ4_fill_2_11 rfl rfl ?_
    refine v_iload_n F dJ4_fill_2_12 rfl rfl ?_
    obtain ⟨hi2, h⟩ := ck_some h
    obtain ⟨d3, ed3, h⟩ := sd_some h
    refine v_iast F dJ4_fill_2_13 hp1 hi2 ?_
    refine v_nD ed3 ?_
    obtain ⟨x4, ex4, h⟩ := lv_some h
    refine v_iincN F dJ4_fill_2_14 (Nat.le_of_ble_eq_true rfl) rfl ex4 (L' := [mA a1, mI a2, mI x4, mI v3]) rfl ?_
    refine v_goto F dJ4_fill_2_17 rfl ?_
    cases h
    exact K
theorem fJ4_fill_2_5_ok {w : Wd} {l : Launch} {G : Cx} {d m dd : Dt} {a1 n1 a2 v2 v3 : Int} {d' : Dt} {x : Dt} (F : Fx w G cJ4_fill_2 RJ4 4 none { frames := 0, cells := 0, slots := 0, locals := 0 }) (hX : WF dd m) (hp1 : AR m a1 101 n1) (h : fJ4_fill_2_5 d a1 n1 a2 v2 v3 = some x) (K : (fun q => q = d') x) : V w l WF G (QM w G WF none d' m 0 0) d m 0 0 5 [mA a1, mI a2, mI v2, mI v3] [] := by
  unfold fJ4_fill_2_5 at h
  exact loop_ok (P := fJ4_fill_2_5P w l G (QM w G WF none d' m 0 0) m a1 n1 a2 v3) (fun s x hx h1 h2 => fJ4_fill_2_5f_ok F hX hp1 hx (by
    cases x with
    | inl s' => exact h1 s' rfl
    | inr z => cases h2 z rfl; exact K)) h
theorem vm_J4_fill_2 {w : Wd} {l : Launch} {d m : Dt} {a1 n1 a2 : Int} {d' : Dt} (hp1 : AR m a1 101 n1) (h : fJ4_fill_2 d a1 n1 a2 = some d') : VM w l WF yJ4_fill_2 cJ4_fill_2 4 none 0 0 0 0 d m [mA a1, mI a2] none d' m := by
  obtain ⟨x, h, K⟩ : ∃ x, fJ4_fill_2 d a1 n1 a2 = some x ∧ x = d' := ⟨_, h, rfl⟩
  refine VM.of (L := [mA a1, mI a2, mU, mU]) (by decide +kernel) rfl (Nat.le_of_ble_eq_true rfl) fun G F _ => v_fact fun _ hX _ _ => ?_
  unfold fJ4_fill_2 at h
  refine v_iconst F dJ4_fill_2_0 ⟨by decide, by decide⟩ ?_
  refine v_istore_n F dJ4_fill_2_1 rfl (Nat.le_of_ble_eq_true rfl) (L' := [mA a1, mI a2, mI 0, mU]) rfl ?_
  refine v_aload_n F dJ4_fill_2_2 rfl rfl ?_
  refine v_alen (t := 101) F dJ4_fill_2_3 hp1 (Nat.le_of_ble_eq_true rfl) rfl ?_
  refine v_istore_n F dJ4_fill_2_4 rfl (Nat.le_of_ble_eq_true rfl) (L' := [mA a1, mI a2, mI 0, mI n1]) rfl ?_
  exact fJ4_fill_2_5_ok F hX hp1 h K
def fJ4_fill_3_6P (w : Wd) (l : Launch) (G : Cx) (Q : State → Prop) (m : Dt) (a1 n1 a2 v4 : Int) (s : Dt × Int) : Prop := V w l WF G Q s.1 m 0 0 6 [mA a1, mL a2, mU, mI (s.2), mI v4] []
theorem fJ4_fill_3_6f_ok {w : Wd} {l : Launch} {G : Cx} {m dd : Dt} {a1 n1 a2 v4 : Int} {d' : Dt} {s : Dt × Int} {x : ((Dt × Int) ⊕ Dt)} (F : Fx w G cJ4_fill_3 RJ4 5 none { frames := 0, cells := 0, slots := 0, locals := 0 }) (hX : WF dd m) (hp1 : AR m a1 104 n1) (h : fJ4_fill_3_6f a1 n1 a2 v4 s = some x) (K : (Sum.elim (fJ4_fill_3_6P w l G (QM w G WF none d' m 0 0) m a1 n1 a2 v4) (fun q => q = d')) x) : V w l WF G (QM w G WF none d' m 0 0) s.1 m 0 0 6 [mA a1, mL a2, mU, mI (s.2), mI v4] [] := by
  obtain ⟨d, v3⟩ := s
  unfold fJ4_fill_3_6f at h
  dsimp only at h
  refine v_iload_n F dJ4_fill_3_6 rfl rfl ?_
  refine v_iload F dJ4_fill_3_7 rfl ?_
  refine v_icmp_ge F dJ4_fill_3_9 rfl (fun hq1 => ?_) (fun hq1 => ?_)
  · rw [if_pos hq1] at h
    obtain ⟨z, hu, ez⟩ := up_some h
    clear h
    subst ez
    have h := hu
    clear hu
    cases h
    cases (show _ = d' from K)
    exact v_vret F dJ4_fill_3_22
  · rw [if_neg hq1] at h
    refine v_aload_n F dJ4_fill_3_12 rfl rfl ?_
    refine v_iload_n F dJ4_fill_3_13 rfl rfl ?_
    refine v_lload_n F dJ4_fill_3_14 rfl rfl ?_
    obtain ⟨hi2, h⟩ := ck_some h
    obtain ⟨d3, ed3, h⟩ := sd_some h
    refine v_last F dJ4_fill_3_15 hp1 hi2 ?_
    refine v_nD ed3 ?_
    obtain ⟨x4, ex4, h⟩ := lv_some h
    refine v_iincN F dJ4_fill_3_16 (Nat.le_of_ble_eq_true rfl) rfl ex4 (L' := [mA a1, mL a2, mU, mI x4, mI v4]) rfl ?_
    refine v_goto F dJ4_fill_3_19 rfl ?_
    cases h
    exact K
theorem fJ4_fill_3_6_ok {w : Wd} {l : Launch} {G : Cx} {d m dd : Dt} {a1 n1 a2 v3 v4 : Int} {d' : Dt} {x : Dt} (F : Fx w G cJ4_fill_3 RJ4 5 none { frames := 0, cells := 0, slots := 0, locals := 0 }) (hX : WF dd m) (hp1 : AR m a1 104 n1) (h : fJ4_fill_3_6 d a1 n1 a2 v3 v4 = some x) (K : (fun q => q = d') x) : V w l WF G (QM w G WF none d' m 0 0) d m 0 0 6 [mA a1, mL a2, mU, mI v3, mI v4] [] := by
  unfold fJ4_fill_3_6 at h
  exact loop_ok (P := fJ4_fill_3_6P w l G (QM w G WF none d' m 0 0) m a1 n1 a2 v4) (fun s x hx h1 h2 => fJ4_fill_3_6f_ok F hX hp1 hx (by
    cases x with
    | inl s' => exact h1 s' rfl
    | inr z => cases h2 z rfl; exact K)) h
theorem vm_J4_fill_3 {w : Wd} {l : Launch} {d m : Dt} {a1 n1 a2 : Int} {d' : Dt} (hp1 : AR m a1 104 n1) (h : fJ4_fill_3 d a1 n1 a2 = some d') : VM w l WF yJ4_fill_3 cJ4_fill_3 5 none 0 0 0 0 d m [mA a1, mL a2] none d' m := by
  obtain ⟨x, h, K⟩ : ∃ x, fJ4_fill_3 d a1 n1 a2 = some x ∧ x = d' := ⟨_, h, rfl⟩
  refine VM.of (L := [mA a1, mL a2, mU, mU, mU]) (by decide +kernel) rfl (Nat.le_of_ble_eq_true rfl) fun G F _ => v_fact fun _ hX _ _ => ?_
  unfold fJ4_fill_3 at h
  refine v_iconst F dJ4_fill_3_0 ⟨by decide, by decide⟩ ?_
  refine v_istore_n F dJ4_fill_3_1 rfl (Nat.le_of_ble_eq_true rfl) (L' := [mA a1, mL a2, mU, mI 0, mU]) rfl ?_
  refine v_aload_n F dJ4_fill_3_2 rfl rfl ?_
  refine v_alen (t := 104) F dJ4_fill_3_3 hp1 (Nat.le_of_ble_eq_true rfl) rfl ?_
  refine v_istore F dJ4_fill_3_4 (Nat.le_of_ble_eq_true rfl) (L' := [mA a1, mL a2, mU, mI 0, mI n1]) rfl ?_
  exact fJ4_fill_3_6_ok F hX hp1 h K
theorem vm_J9_min {w : Wd} {l : Launch} {X : Dt → Dt → Prop} {d m : Dt} {a1 a2 : Int} : VM w l X yJ9_min cJ9_min 2 (some .int) 0 0 0 0 d m [mI a1, mI a2] (some (mI (fJ9_min a1 a2))) d m := by
  obtain ⟨r, hr⟩ : ∃ r, fJ9_min a1 a2 = r := ⟨_, rfl⟩
  rw [hr]
  obtain ⟨x, h, K⟩ : ∃ x, fJ9_min a1 a2 = x ∧ x = r := ⟨_, hr, rfl⟩
  refine VM.ofF (L := [mI a1, mI a2]) (by decide +kernel) rfl (Nat.le_of_ble_eq_true rfl) fun G F _ => ?_
  unfold fJ9_min at h
  refine v_iload_n F dJ9_min_0 rfl rfl ?_
  refine v_iload_n F dJ9_min_1 rfl rfl ?_
  refine v_icmp_gt F dJ9_min_2 rfl (fun hq1 => ?_) (fun hq1 => ?_)
  · rw [if_pos hq1] at h
    refine v_iload_n F dJ9_min_9 rfl rfl ?_
    subst h
    cases (show _ = r from K)
    exact v_iret F dJ9_min_10
  · rw [if_neg hq1] at h
    refine v_iload_n F dJ9_min_5 rfl rfl ?_
    refine v_goto F dJ9_min_6 rfl ?_
    subst h
    cases (show _ = r from K)
    exact v_iret F dJ9_min_10
theorem vm_J9_floorMod {w : Wd} {l : Launch} {X : Dt → Dt → Prop} {d m : Dt} {a1 a2 : Int} {r : Int} (h : fJ9_floorMod a1 a2 = some r) : VM w l X yJ9_floorMod cJ9_floorMod 3 (some .int) 0 0 0 0 d m [mI a1, mI a2] (some (mI r)) d m := by
  obtain ⟨x, h, K⟩ : ∃ x, fJ9_floorMod a1 a2 = some x ∧ x = r := ⟨_, h, rfl⟩
  refine VM.ofF (L := [mI a1, mI a2, mU]) (by decide +kernel) rfl (Nat.le_of_ble_eq_true rfl) fun G F _ => ?_
  unfold fJ9_floorMod at h
  refine v_iload_n F dJ9_floorMod_0 rfl rfl ?_
  refine v_iload_n F dJ9_floorMod_1 rfl rfl ?_
  obtain ⟨hz1, h⟩ := ck_some h
  refine v_irem F dJ9_floorMod_2 hz1 ?_
  obtain ⟨x2, ex2, h⟩ := lv_some h
  refine v_nI ex2 ?_
  refine v_istore_n F dJ9_floorMod_3 rfl (Nat.le_of_ble_eq_true rfl) (L' := [mI a1, mI a2, mI x2]) rfl ?_
  refine v_iload_n F dJ9_floorMod_4 rfl rfl ?_
  refine v_iload_n F dJ9_floorMod_5 rfl rfl ?_
  refine v_ixor F dJ9_floorMod_6 ?_
  refine v_if_ge F dJ9_floorMod_7 rfl (fun hq3 => ?_) (fun hq3 => ?_)
  · rw [if_pos hq3] at h
    refine v_iload_n F dJ9_floorMod_18 rfl rfl ?_
    cases h
    cases (show _ = r from K)
    exact v_iret F dJ9_floorMod_19
  · rw [if_neg hq3] at h
    refine v_iload_n F dJ9_floorMod_10 rfl rfl ?_
    refine v_if_eq F dJ9_floorMod_11 rfl (fun hq4 => ?_) (fun hq4 => ?_)
    · rw [if_pos hq4] at h
      refine v_iload_n F dJ9_floorMod_18 rfl rfl ?_
      cases h
      cases (show _ = r from K)
      exact v_iret F dJ9_floorMod_19
    · rw [if_neg hq4] at h
      refine v_iload_n F dJ9_floorMod_14 rfl rfl ?_
      refine v_iload_n F dJ9_floorMod_15 rfl rfl ?_
      refine v_iadd F dJ9_floorMod_16 ?_
      cases h
      cases (show _ = r from K)
      exact v_iret F dJ9_floorMod_17
theorem vm_J9_max {w : Wd} {l : Launch} {X : Dt → Dt → Prop} {d m : Dt} {a1 a2 : Int} : VM w l X yJ9_max cJ9_max 2 (some .int) 0 0 0 0 d m [mI a1, mI a2] (some (mI (fJ9_max a1 a2))) d m := by
  obtain ⟨r, hr⟩ : ∃ r, fJ9_max a1 a2 = r := ⟨_, rfl⟩
  rw [hr]
  obtain ⟨x, h, K⟩ : ∃ x, fJ9_max a1 a2 = x ∧ x = r := ⟨_, hr, rfl⟩
  refine VM.ofF (L := [mI a1, mI a2]) (by decide +kernel) rfl (Nat.le_of_ble_eq_true rfl) fun G F _ => ?_
  unfold fJ9_max at h
  refine v_iload_n F dJ9_max_0 rfl rfl ?_
  refine v_iload_n F dJ9_max_1 rfl rfl ?_
  refine v_icmp_lt F dJ9_max_2 rfl (fun hq1 => ?_) (fun hq1 => ?_)
  · rw [if_pos hq1] at h
    refine v_iload_n F dJ9_max_9 rfl rfl ?_
    subst h
    cases (show _ = r from K)
    exact v_iret F dJ9_max_10
  · rw [if_neg hq1] at h
    refine v_iload_n F dJ9_max_5 rfl rfl ?_
    refine v_goto F dJ9_max_6 rfl ?_
    subst h
    cases (show _ = r from K)
    exact v_iret F dJ9_max_10
theorem vm_J9_max_2 {w : Wd} {l : Launch} {X : Dt → Dt → Prop} {d m : Dt} {a1 a2 : Int} : VM w l X yJ9_max_2 cJ9_max_2 4 (some .long) 0 0 0 0 d m [mL a1, mL a2] (some (mL (fJ9_max_2 a1 a2))) d m := by
  obtain ⟨r, hr⟩ : ∃ r, fJ9_max_2 a1 a2 = r := ⟨_, rfl⟩
  rw [hr]
  obtain ⟨x, h, K⟩ : ∃ x, fJ9_max_2 a1 a2 = x ∧ x = r := ⟨_, hr, rfl⟩
  refine VM.ofF (L := [mL a1, mU, mL a2, mU]) (by decide +kernel) rfl (Nat.le_of_ble_eq_true rfl) fun G F _ => ?_
  unfold fJ9_max_2 at h
  refine v_lload_n F dJ9_max_2_0 rfl rfl ?_
  refine v_lload_n F dJ9_max_2_1 rfl rfl ?_
  refine v_lcmp F dJ9_max_2_2 ?_
  refine v_if_lt F dJ9_max_2_3 rfl (fun hq1 => ?_) (fun hq1 => ?_)
  · rw [if_pos hq1] at h
    refine v_lload_n F dJ9_max_2_10 rfl rfl ?_
    subst h
    cases (show _ = r from K)
    exact v_lret F dJ9_max_2_11
  · rw [if_neg hq1] at h
    refine v_lload_n F dJ9_max_2_6 rfl rfl ?_
    refine v_goto F dJ9_max_2_7 rfl ?_
    subst h
    cases (show _ = r from K)
    exact v_lret F dJ9_max_2_11
theorem vm_J9_min_2 {w : Wd} {l : Launch} {X : Dt → Dt → Prop} {d m : Dt} {a1 a2 : Int} : VM w l X yJ9_min_2 cJ9_min_2 4 (some .long) 0 0 0 0 d m [mL a1, mL a2] (some (mL (fJ9_min_2 a1 a2))) d m := by
  obtain ⟨r, hr⟩ : ∃ r, fJ9_min_2 a1 a2 = r := ⟨_, rfl⟩
  rw [hr]
  obtain ⟨x, h, K⟩ : ∃ x, fJ9_min_2 a1 a2 = x ∧ x = r := ⟨_, hr, rfl⟩
  refine VM.ofF (L := [mL a1, mU, mL a2, mU]) (by decide +kernel) rfl (Nat.le_of_ble_eq_true rfl) fun G F _ => ?_
  unfold fJ9_min_2 at h
  refine v_lload_n F dJ9_min_2_0 rfl rfl ?_
  refine v_lload_n F dJ9_min_2_1 rfl rfl ?_
  refine v_lcmp F dJ9_min_2_2 ?_
  refine v_if_gt F dJ9_min_2_3 rfl (fun hq1 => ?_) (fun hq1 => ?_)
  · rw [if_pos hq1] at h
    refine v_lload_n F dJ9_min_2_10 rfl rfl ?_
    subst h
    cases (show _ = r from K)
    exact v_lret F dJ9_min_2_11
  · rw [if_neg hq1] at h
    refine v_lload_n F dJ9_min_2_6 rfl rfl ?_
    refine v_goto F dJ9_min_2_7 rfl ?_
    subst h
    cases (show _ = r from K)
    exact v_lret F dJ9_min_2_11
theorem vm_J9_floorDiv {w : Wd} {l : Launch} {X : Dt → Dt → Prop} {d m : Dt} {a1 a2 : Int} {r : Int} (h : fJ9_floorDiv a1 a2 = some r) : VM w l X yJ9_floorDiv cJ9_floorDiv 6 (some .long) 0 0 0 0 d m [mL a1, mL a2] (some (mL r)) d m := by
  obtain ⟨x, h, K⟩ : ∃ x, fJ9_floorDiv a1 a2 = some x ∧ x = r := ⟨_, h, rfl⟩
  refine VM.ofF (L := [mL a1, mU, mL a2, mU, mU, mU]) (by decide +kernel) rfl (Nat.le_of_ble_eq_true rfl) fun G F _ => ?_
  unfold fJ9_floorDiv at h
  refine v_lload_n F dJ9_floorDiv_0 rfl rfl ?_
  refine v_lload_n F dJ9_floorDiv_1 rfl rfl ?_
  obtain ⟨hz1, h⟩ := ck_some h
  refine v_ldiv F dJ9_floorDiv_2 hz1 ?_
  obtain ⟨x2, ex2, h⟩ := lv_some h
  refine v_nL ex2 ?_
  refine v_lstore F dJ9_floorDiv_3 (Nat.le_of_ble_eq_true rfl) (L' := [mL a1, mU, mL a2, mU, mL x2, mU]) rfl ?_
  refine v_lload_n F dJ9_floorDiv_5 rfl rfl ?_
  refine v_lload_n F dJ9_floorDiv_6 rfl rfl ?_
  refine v_lxor F dJ9_floorDiv_7 ?_
  refine v_lconst0 F dJ9_floorDiv_8 ?_
  refine v_lcmp F dJ9_floorDiv_9 ?_
  refine v_if_ge F dJ9_floorDiv_10 rfl (fun hq3 => ?_) (fun hq3 => ?_)
  · rw [if_pos hq3] at h
    refine v_lload F dJ9_floorDiv_27 rfl ?_
    cases h
    cases (show _ = r from K)
    exact v_lret F dJ9_floorDiv_29
  · rw [if_neg hq3] at h
    refine v_lload F dJ9_floorDiv_13 rfl ?_
    refine v_lload_n F dJ9_floorDiv_15 rfl rfl ?_
    refine v_lmul F dJ9_floorDiv_16 ?_
    refine v_lload_n F dJ9_floorDiv_17 rfl rfl ?_
    refine v_lcmp F dJ9_floorDiv_18 ?_
    refine v_if_eq F dJ9_floorDiv_19 rfl (fun hq4 => ?_) (fun hq4 => ?_)
    · rw [if_pos hq4] at h
      refine v_lload F dJ9_floorDiv_27 rfl ?_
      cases h
      cases (show _ = r from K)
      exact v_lret F dJ9_floorDiv_29
    · rw [if_neg hq4] at h
      refine v_lload F dJ9_floorDiv_22 rfl ?_
      refine v_lconst1 F dJ9_floorDiv_24 ?_
      refine v_lsub F dJ9_floorDiv_25 ?_
      cases h
      cases (show _ = r from K)
      exact v_lret F dJ9_floorDiv_26
def fX0_feed_19P (w : Wd) (l : Launch) (G : Cx) (Q : State → Prop) (m : Dt) (a1 a2 a3 a4 a5 : Int) (s : Dt × Int) : Prop := V w l WF G Q s.1 m 0 0 19 [mA 1, mI a1, mI a2, mI a3, mI a4, mI a5, mI (s.2), mU] []
theorem fX0_feed_72_ok {w : Wd} {l : Launch} {G : Cx} {d m dd : Dt} {a1 a2 a3 a4 a5 v6 s0 : Int} {d' : Dt} {r : Int} {x : ((Dt × Int) ⊕ (Dt × Int))} (F : Fx w G cX0_feed RX0 8 (some .int) { frames := 0, cells := 0, slots := 0, locals := 0 }) (hX : WF dd m) (hp : PB m 1 0) (h : fX0_feed_72 d a1 a2 a3 a4 a5 v6 s0 = some x) (K : (Sum.elim (fX0_feed_19P w l G (QM w G WF (some (mI r)) d' m 0 0) m a1 a2 a3 a4 a5) (fun q => q = (d', r))) x) : V w l WF G (QM w G WF (some (mI r)) d' m 0 0) d m 0 0 72 [mA 1, mI a1, mI a2, mI a3, mI a4, mI a5, mI v6, mU] [mI s0] := by
  unfold fX0_feed_72 at h
  refine v_istore F dX0_feed_72 (Nat.le_of_ble_eq_true rfl) (L' := [mA 1, mI a1, mI a2, mI a3, mI a4, mI a5, mI v6, mI s0]) rfl ?_
  refine v_aload_n F dX0_feed_74 rfl rfl ?_
  refine gf_X0_13 F dX0_feed_75 hp (v := 2) rfl ?_
  refine v_aload_n F dX0_feed_78 rfl rfl ?_
  refine gf_X0_160 F dX0_feed_79 hp ?_
  refine v_iload F dX0_feed_82 rfl ?_
  refine v_bipush F dX0_feed_84 rfl ⟨by decide, by decide⟩ ?_
  refine v_bipush F dX0_feed_86 rfl ⟨by decide, by decide⟩ ?_
  refine v_iload F dX0_feed_88 rfl ?_
  refine v_iconst F dX0_feed_90 ⟨by decide, by decide⟩ ?_
  refine v_irem F dX0_feed_91 (by decide) ?_
  refine v_imul F dX0_feed_92 ?_
  refine v_isub F dX0_feed_93 ?_
  refine v_ishr F dX0_feed_94 ?_
  refine v_i2b F dX0_feed_95 ?_
  obtain ⟨x7, ex7, h⟩ := lv_some h
  refine v_n2 ex7 ?_
  obtain ⟨hi8, h⟩ := ck_some h
  obtain ⟨d9, ed9, h⟩ := sd_some h
  refine v_bast F dX0_feed_96 (ar_X0_0 hX hp) hi8 ?_
  refine v_nD ed9 ?_
  refine v_aload_n F dX0_feed_97 rfl rfl ?_
  refine v_dup_A F dX0_feed_98 ?_
  refine gf_X0_160 F dX0_feed_99 hp ?_
  refine v_iconst F dX0_feed_102 ⟨by decide, by decide⟩ ?_
  refine v_iadd F dX0_feed_103 ?_
  obtain ⟨d10, ed10, h⟩ := sd_some h
  refine pf_X0_160 F dX0_feed_104 hp ?_
  refine v_nD ed10 ?_
  obtain ⟨x11, ex11, h⟩ := lv_some h
  refine v_iincN F dX0_feed_107 (Nat.le_of_ble_eq_true rfl) rfl ex11 (L' := [mA 1, mI a1, mI a2, mI a3, mI a4, mI a5, mI x11, mI s0]) rfl ?_
  refine v_goto F dX0_feed_110 rfl ?_
  cases h
  refine v_fgt (L' := [mA 1, mI a1, mI a2, mI a3, mI a4, mI a5, mI x11, mU]) ⟨Or.inl rfl, Or.inl rfl, Or.inl rfl, Or.inl rfl, Or.inl rfl, Or.inl rfl, Or.inl rfl, Or.inr rfl, trivial⟩ ?_
  exact K
theorem fX0_feed_19f_ok {w : Wd} {l : Launch} {G : Cx} {m dd : Dt} {a1 a2 a3 a4 a5 : Int} {d' : Dt} {r : Int} {s : Dt × Int} {x : ((Dt × Int) ⊕ (Dt × Int))} (F : Fx w G cX0_feed RX0 8 (some .int) { frames := 0, cells := 0, slots := 0, locals := 0 }) (hX : WF dd m) (hp : PB m 1 0) (h : fX0_feed_19f a1 a2 a3 a4 a5 s = some x) (K : (Sum.elim (fX0_feed_19P w l G (QM w G WF (some (mI r)) d' m 0 0) m a1 a2 a3 a4 a5) (fun q => q = (d', r))) x) : V w l WF G (QM w G WF (some (mI r)) d' m 0 0) s.1 m 0 0 19 [mA 1, mI a1, mI a2, mI a3, mI a4, mI a5, mI (s.2), mU] [] := by
  obtain ⟨d, v6⟩ := s
  unfold fX0_feed_19f at h
  dsimp only at h
  refine v_iload F dX0_feed_19 rfl ?_
  refine v_bipush F dX0_feed_21 rfl ⟨by decide, by decide⟩ ?_
  refine v_icmp_ge F dX0_feed_23 rfl (fun hq2 => ?_) (fun hq2 => ?_)
  · rw [if_pos hq2] at h
    obtain ⟨z, hu, ez⟩ := up_some h
    clear h
    subst ez
    have h := hu
    clear hu
    refine v_aload_n F dX0_feed_113 rfl rfl ?_
    refine gf_X0_160 F dX0_feed_114 hp ?_
    cases h
    cases (show _ = (d', r) from K)
    exact v_iret F dX0_feed_117
  · rw [if_neg hq2] at h
    refine v_iload F dX0_feed_26 rfl ?_
    refine v_iconst F dX0_feed_28 ⟨by decide, by decide⟩ ?_
    refine v_icmp_ge F dX0_feed_29 rfl (fun hq3 => ?_) (fun hq3 => ?_)
    · rw [if_pos hq3] at h
      refine v_iload F dX0_feed_36 rfl ?_
      refine v_bipush F dX0_feed_38 rfl ⟨by decide, by decide⟩ ?_
      refine v_icmp_ge F dX0_feed_40 rfl (fun hq4 => ?_) (fun hq4 => ?_)
      · rw [if_pos hq4] at h
        refine v_iload F dX0_feed_47 rfl ?_
        refine v_bipush F dX0_feed_49 rfl ⟨by decide, by decide⟩ ?_
        refine v_icmp_ge F dX0_feed_51 rfl (fun hq5 => ?_) (fun hq5 => ?_)
        · rw [if_pos hq5] at h
          refine v_iload F dX0_feed_58 rfl ?_
          refine v_bipush F dX0_feed_60 rfl ⟨by decide, by decide⟩ ?_
          refine v_icmp_ge F dX0_feed_62 rfl (fun hq6 => ?_) (fun hq6 => ?_)
          · rw [if_pos hq6] at h
            refine v_iload F dX0_feed_70 rfl ?_
            exact fX0_feed_72_ok F hX hp h K
          · rw [if_neg hq6] at h
            refine v_iload F dX0_feed_65 rfl ?_
            refine v_goto F dX0_feed_67 rfl ?_
            exact fX0_feed_72_ok F hX hp h K
        · rw [if_neg hq5] at h
          refine v_iload_n F dX0_feed_54 rfl rfl ?_
          refine v_goto F dX0_feed_55 rfl ?_
          exact fX0_feed_72_ok F hX hp h K
      · rw [if_neg hq4] at h
        refine v_iload_n F dX0_feed_43 rfl rfl ?_
        refine v_goto F dX0_feed_44 rfl ?_
        exact fX0_feed_72_ok F hX hp h K
    · rw [if_neg hq3] at h
      refine v_iload_n F dX0_feed_32 rfl rfl ?_
      refine v_goto F dX0_feed_33 rfl ?_
      exact fX0_feed_72_ok F hX hp h K
theorem fX0_feed_19_ok {w : Wd} {l : Launch} {G : Cx} {d m dd : Dt} {a1 a2 a3 a4 a5 v6 : Int} {d' : Dt} {r : Int} {x : (Dt × Int)} (F : Fx w G cX0_feed RX0 8 (some .int) { frames := 0, cells := 0, slots := 0, locals := 0 }) (hX : WF dd m) (hp : PB m 1 0) (h : fX0_feed_19 d a1 a2 a3 a4 a5 v6 = some x) (K : (fun q => q = (d', r)) x) : V w l WF G (QM w G WF (some (mI r)) d' m 0 0) d m 0 0 19 [mA 1, mI a1, mI a2, mI a3, mI a4, mI a5, mI v6, mU] [] := by
  unfold fX0_feed_19 at h
  exact loop_ok (P := fX0_feed_19P w l G (QM w G WF (some (mI r)) d' m 0 0) m a1 a2 a3 a4 a5) (fun s x hx h1 h2 => fX0_feed_19f_ok F hX hp hx (by
    cases x with
    | inl s' => exact h1 s' rfl
    | inr z => cases h2 z rfl; exact K)) h
theorem vm_X0_feed {w : Wd} {l : Launch} {d m : Dt} {a1 a2 a3 a4 a5 : Int} {d' : Dt} {r : Int} (hp : PB m 1 0) (h : fX0_feed d a1 a2 a3 a4 a5 = some (d', r)) : VM w l WF yX0_feed cX0_feed 8 (some .int) 0 0 0 0 d m [mA 1, mI a1, mI a2, mI a3, mI a4, mI a5] (some (mI r)) d' m := by
  obtain ⟨x, h, K⟩ : ∃ x, fX0_feed d a1 a2 a3 a4 a5 = some x ∧ x = (d', r) := ⟨_, h, rfl⟩
  refine VM.of (L := [mA 1, mI a1, mI a2, mI a3, mI a4, mI a5, mU, mU]) (by decide +kernel) rfl (Nat.le_of_ble_eq_true rfl) fun G F _ => v_fact fun _ hX _ _ => ?_
  unfold fX0_feed at h
  refine v_aload_n F dX0_feed_0 rfl rfl ?_
  refine gf_X0_160 F dX0_feed_1 hp ?_
  refine v_bipush F dX0_feed_4 rfl ⟨by decide, by decide⟩ ?_
  refine v_iadd F dX0_feed_6 ?_
  refine v_sipush F dX0_feed_7 rfl ⟨by decide, by decide⟩ ?_
  refine v_icmp_le F dX0_feed_10 rfl (fun hq1 => ?_) (fun hq1 => ?_)
  · rw [if_pos hq1] at h
    refine v_iconst F dX0_feed_16 ⟨by decide, by decide⟩ ?_
    refine v_istore F dX0_feed_17 (Nat.le_of_ble_eq_true rfl) (L' := [mA 1, mI a1, mI a2, mI a3, mI a4, mI a5, mI 0, mU]) rfl ?_
    exact fX0_feed_19_ok F hX hp h K
  · rw [if_neg hq1] at h
    refine v_bipush F dX0_feed_13 rfl ⟨by decide, by decide⟩ ?_
    cases h
    cases (show _ = (d', r) from K)
    exact v_iret F dX0_feed_15
def fX11_feed_19P (w : Wd) (l : Launch) (G : Cx) (Q : State → Prop) (m : Dt) (a1 a2 a3 a4 a5 : Int) (s : Dt × Int) : Prop := V w l WF G Q s.1 m 0 0 19 [mA 1545, mI a1, mI a2, mI a3, mI a4, mI a5, mI (s.2), mU] []
theorem fX11_feed_72_ok {w : Wd} {l : Launch} {G : Cx} {d m dd : Dt} {a1 a2 a3 a4 a5 v6 s0 : Int} {d' : Dt} {r : Int} {x : ((Dt × Int) ⊕ (Dt × Int))} (F : Fx w G cX11_feed RX11 8 (some .int) { frames := 0, cells := 0, slots := 0, locals := 0 }) (hX : WF dd m) (hp : PB m 1545 11) (h : fX11_feed_72 d a1 a2 a3 a4 a5 v6 s0 = some x) (K : (Sum.elim (fX11_feed_19P w l G (QM w G WF (some (mI r)) d' m 0 0) m a1 a2 a3 a4 a5) (fun q => q = (d', r))) x) : V w l WF G (QM w G WF (some (mI r)) d' m 0 0) d m 0 0 72 [mA 1545, mI a1, mI a2, mI a3, mI a4, mI a5, mI v6, mU] [mI s0] := by
  unfold fX11_feed_72 at h
  refine v_istore F dX11_feed_72 (Nat.le_of_ble_eq_true rfl) (L' := [mA 1545, mI a1, mI a2, mI a3, mI a4, mI a5, mI v6, mI s0]) rfl ?_
  refine v_aload_n F dX11_feed_74 rfl rfl ?_
  refine gf_X11_9 F dX11_feed_75 hp (v := 1546) rfl ?_
  refine v_aload_n F dX11_feed_78 rfl rfl ?_
  refine gf_X11_5 F dX11_feed_79 hp ?_
  refine v_iload F dX11_feed_82 rfl ?_
  refine v_iadd F dX11_feed_84 ?_
  refine v_iload F dX11_feed_85 rfl ?_
  refine v_bipush F dX11_feed_87 rfl ⟨by decide, by decide⟩ ?_
  refine v_bipush F dX11_feed_89 rfl ⟨by decide, by decide⟩ ?_
  refine v_iload F dX11_feed_91 rfl ?_
  refine v_iconst F dX11_feed_93 ⟨by decide, by decide⟩ ?_
  refine v_irem F dX11_feed_94 (by decide) ?_
  refine v_imul F dX11_feed_95 ?_
  refine v_isub F dX11_feed_96 ?_
  refine v_ishr F dX11_feed_97 ?_
  refine v_i2b F dX11_feed_98 ?_
  obtain ⟨x8, ex8, h⟩ := lv_some h
  refine v_n2 ex8 ?_
  obtain ⟨hi9, h⟩ := ck_some h
  obtain ⟨d10, ed10, h⟩ := sd_some h
  refine v_bast F dX11_feed_99 (ar_X11_0 hX hp) hi9 ?_
  refine v_nD ed10 ?_
  obtain ⟨x11, ex11, h⟩ := lv_some h
  refine v_iincN F dX11_feed_100 (Nat.le_of_ble_eq_true rfl) rfl ex11 (L' := [mA 1545, mI a1, mI a2, mI a3, mI a4, mI a5, mI x11, mI s0]) rfl ?_
  refine v_goto F dX11_feed_103 rfl ?_
  cases h
  refine v_fgt (L' := [mA 1545, mI a1, mI a2, mI a3, mI a4, mI a5, mI x11, mU]) ⟨Or.inl rfl, Or.inl rfl, Or.inl rfl, Or.inl rfl, Or.inl rfl, Or.inl rfl, Or.inl rfl, Or.inr rfl, trivial⟩ ?_
  exact K
theorem fX11_feed_19f_ok {w : Wd} {l : Launch} {G : Cx} {m dd : Dt} {a1 a2 a3 a4 a5 : Int} {d' : Dt} {r : Int} {s : Dt × Int} {x : ((Dt × Int) ⊕ (Dt × Int))} (F : Fx w G cX11_feed RX11 8 (some .int) { frames := 0, cells := 0, slots := 0, locals := 0 }) (hX : WF dd m) (hp : PB m 1545 11) (h : fX11_feed_19f a1 a2 a3 a4 a5 s = some x) (K : (Sum.elim (fX11_feed_19P w l G (QM w G WF (some (mI r)) d' m 0 0) m a1 a2 a3 a4 a5) (fun q => q = (d', r))) x) : V w l WF G (QM w G WF (some (mI r)) d' m 0 0) s.1 m 0 0 19 [mA 1545, mI a1, mI a2, mI a3, mI a4, mI a5, mI (s.2), mU] [] := by
  obtain ⟨d, v6⟩ := s
  unfold fX11_feed_19f at h
  dsimp only at h
  refine v_iload F dX11_feed_19 rfl ?_
  refine v_bipush F dX11_feed_21 rfl ⟨by decide, by decide⟩ ?_
  refine v_icmp_ge F dX11_feed_23 rfl (fun hq2 => ?_) (fun hq2 => ?_)
  · rw [if_pos hq2] at h
    obtain ⟨z, hu, ez⟩ := up_some h
    clear h
    subst ez
    have h := hu
    clear hu
    refine v_aload_n F dX11_feed_106 rfl rfl ?_
    refine v_dup_A F dX11_feed_107 ?_
    refine gf_X11_5 F dX11_feed_108 hp ?_
    refine v_bipush F dX11_feed_111 rfl ⟨by decide, by decide⟩ ?_
    refine v_iadd F dX11_feed_113 ?_
    obtain ⟨d3, ed3, h⟩ := sd_some h
    refine pf_X11_5 F dX11_feed_114 hp ?_
    refine v_nD ed3 ?_
    refine v_aload_n F dX11_feed_117 rfl rfl ?_
    refine gf_X11_5 F dX11_feed_118 hp ?_
    cases h
    cases (show _ = (d', r) from K)
    exact v_iret F dX11_feed_121
  · rw [if_neg hq2] at h
    refine v_iload F dX11_feed_26 rfl ?_
    refine v_iconst F dX11_feed_28 ⟨by decide, by decide⟩ ?_
    refine v_icmp_ge F dX11_feed_29 rfl (fun hq4 => ?_) (fun hq4 => ?_)
    · rw [if_pos hq4] at h
      refine v_iload F dX11_feed_36 rfl ?_
      refine v_bipush F dX11_feed_38 rfl ⟨by decide, by decide⟩ ?_
      refine v_icmp_ge F dX11_feed_40 rfl (fun hq5 => ?_) (fun hq5 => ?_)
      · rw [if_pos hq5] at h
        refine v_iload F dX11_feed_47 rfl ?_
        refine v_bipush F dX11_feed_49 rfl ⟨by decide, by decide⟩ ?_
        refine v_icmp_ge F dX11_feed_51 rfl (fun hq6 => ?_) (fun hq6 => ?_)
        · rw [if_pos hq6] at h
          refine v_iload F dX11_feed_58 rfl ?_
          refine v_bipush F dX11_feed_60 rfl ⟨by decide, by decide⟩ ?_
          refine v_icmp_ge F dX11_feed_62 rfl (fun hq7 => ?_) (fun hq7 => ?_)
          · rw [if_pos hq7] at h
            refine v_iload F dX11_feed_70 rfl ?_
            exact fX11_feed_72_ok F hX hp h K
          · rw [if_neg hq7] at h
            refine v_iload F dX11_feed_65 rfl ?_
            refine v_goto F dX11_feed_67 rfl ?_
            exact fX11_feed_72_ok F hX hp h K
        · rw [if_neg hq6] at h
          refine v_iload_n F dX11_feed_54 rfl rfl ?_
          refine v_goto F dX11_feed_55 rfl ?_
          exact fX11_feed_72_ok F hX hp h K
      · rw [if_neg hq5] at h
        refine v_iload_n F dX11_feed_43 rfl rfl ?_
        refine v_goto F dX11_feed_44 rfl ?_
        exact fX11_feed_72_ok F hX hp h K
    · rw [if_neg hq4] at h
      refine v_iload_n F dX11_feed_32 rfl rfl ?_
      refine v_goto F dX11_feed_33 rfl ?_
      exact fX11_feed_72_ok F hX hp h K
theorem fX11_feed_19_ok {w : Wd} {l : Launch} {G : Cx} {d m dd : Dt} {a1 a2 a3 a4 a5 v6 : Int} {d' : Dt} {r : Int} {x : (Dt × Int)} (F : Fx w G cX11_feed RX11 8 (some .int) { frames := 0, cells := 0, slots := 0, locals := 0 }) (hX : WF dd m) (hp : PB m 1545 11) (h : fX11_feed_19 d a1 a2 a3 a4 a5 v6 = some x) (K : (fun q => q = (d', r)) x) : V w l WF G (QM w G WF (some (mI r)) d' m 0 0) d m 0 0 19 [mA 1545, mI a1, mI a2, mI a3, mI a4, mI a5, mI v6, mU] [] := by
  unfold fX11_feed_19 at h
  exact loop_ok (P := fX11_feed_19P w l G (QM w G WF (some (mI r)) d' m 0 0) m a1 a2 a3 a4 a5) (fun s x hx h1 h2 => fX11_feed_19f_ok F hX hp hx (by
    cases x with
    | inl s' => exact h1 s' rfl
    | inr z => cases h2 z rfl; exact K)) h
theorem vm_X11_feed {w : Wd} {l : Launch} {d m : Dt} {a1 a2 a3 a4 a5 : Int} {d' : Dt} {r : Int} (hp : PB m 1545 11) (h : fX11_feed d a1 a2 a3 a4 a5 = some (d', r)) : VM w l WF yX11_feed cX11_feed 8 (some .int) 0 0 0 0 d m [mA 1545, mI a1, mI a2, mI a3, mI a4, mI a5] (some (mI r)) d' m := by
  obtain ⟨x, h, K⟩ : ∃ x, fX11_feed d a1 a2 a3 a4 a5 = some x ∧ x = (d', r) := ⟨_, h, rfl⟩
  refine VM.of (L := [mA 1545, mI a1, mI a2, mI a3, mI a4, mI a5, mU, mU]) (by decide +kernel) rfl (Nat.le_of_ble_eq_true rfl) fun G F _ => v_fact fun _ hX _ _ => ?_
  unfold fX11_feed at h
  refine v_aload_n F dX11_feed_0 rfl rfl ?_
  refine gf_X11_5 F dX11_feed_1 hp ?_
  refine v_bipush F dX11_feed_4 rfl ⟨by decide, by decide⟩ ?_
  refine v_iadd F dX11_feed_6 ?_
  refine v_sipush F dX11_feed_7 rfl ⟨by decide, by decide⟩ ?_
  refine v_icmp_le F dX11_feed_10 rfl (fun hq1 => ?_) (fun hq1 => ?_)
  · rw [if_pos hq1] at h
    refine v_iconst F dX11_feed_16 ⟨by decide, by decide⟩ ?_
    refine v_istore F dX11_feed_17 (Nat.le_of_ble_eq_true rfl) (L' := [mA 1545, mI a1, mI a2, mI a3, mI a4, mI a5, mI 0, mU]) rfl ?_
    exact fX11_feed_19_ok F hX hp h K
  · rw [if_neg hq1] at h
    refine v_bipush F dX11_feed_13 rfl ⟨by decide, by decide⟩ ?_
    cases h
    cases (show _ = (d', r) from K)
    exact v_iret F dX11_feed_15
theorem vm_X0_within {w : Wd} {l : Launch} {X : Dt → Dt → Prop} {d m : Dt} {a1 a2 a3 : Int} : VM w l X yX0_within cX0_within 3 (some .boolean) 0 0 0 0 d m [mI a1, mI a2, mI a3] (some (mI (fX0_within a1 a2 a3))) d m := by
  obtain ⟨r, hr⟩ : ∃ r, fX0_within a1 a2 a3 = r := ⟨_, rfl⟩
  rw [hr]
  obtain ⟨x, h, K⟩ : ∃ x, fX0_within a1 a2 a3 = x ∧ x = r := ⟨_, hr, rfl⟩
  refine VM.of (L := [mI a1, mI a2, mI a3]) (by decide +kernel) rfl (Nat.le_of_ble_eq_true rfl) fun G F _ => ?_
  unfold fX0_within at h
  refine v_iload_n F dX0_within_0 rfl rfl ?_
  refine v_iload_n F dX0_within_1 rfl rfl ?_
  refine v_icmp_lt F dX0_within_2 rfl (fun hq1 => ?_) (fun hq1 => ?_)
  · rw [if_pos hq1] at h
    refine v_iconst F dX0_within_14 ⟨by decide, by decide⟩ ?_
    subst h
    cases (show _ = r from K)
    exact v_zret F (Or.inl rfl) dX0_within_15
  · rw [if_neg hq1] at h
    refine v_iload_n F dX0_within_5 rfl rfl ?_
    refine v_iload_n F dX0_within_6 rfl rfl ?_
    refine v_icmp_gt F dX0_within_7 rfl (fun hq2 => ?_) (fun hq2 => ?_)
    · rw [if_pos hq2] at h
      refine v_iconst F dX0_within_14 ⟨by decide, by decide⟩ ?_
      subst h
      cases (show _ = r from K)
      exact v_zret F (Or.inl rfl) dX0_within_15
    · rw [if_neg hq2] at h
      refine v_iconst F dX0_within_10 ⟨by decide, by decide⟩ ?_
      refine v_goto F dX0_within_11 rfl ?_
      subst h
      cases (show _ = r from K)
      exact v_zret F (Or.inr rfl) dX0_within_15
theorem fX0_within_z {a1 a2 a3 : Int} : fX0_within a1 a2 a3 = 0 ∨ fX0_within a1 a2 a3 = 1 := by
  unfold fX0_within
  repeat' (first | exact Or.inl rfl | exact Or.inr rfl | split | assumption)
theorem vm_X0_cut {w : Wd} {l : Launch} {d m : Dt} {a1 : Int} {d' : Dt} {r : Int} (hp : PB m 1 0) (h : fX0_cut d a1 = some (d', r)) : VM w l WF yX0_cut cX0_cut 2 (some .int) 1 22 0 0 d m [mA 1, mI a1] (some (mI r)) d' m := by
  obtain ⟨x, h, K⟩ : ∃ x, fX0_cut d a1 = some x ∧ x = (d', r) := ⟨_, h, rfl⟩
  refine VM.of (L := [mA 1, mI a1]) (by decide +kernel) rfl (Nat.le_of_ble_eq_true rfl) fun G F _ => v_fact fun _ hX _ _ => ?_
  unfold fX0_cut at h
  refine v_iload_n F dX0_cut_0 rfl rfl ?_
  refine v_iconst F dX0_cut_1 ⟨by decide, by decide⟩ ?_
  refine v_aload_n F dX0_cut_2 rfl rfl ?_
  refine gf_X0_160 F dX0_cut_3 hp ?_
  refine v_callSv F dX0_cut_6 cs_X0_163 rfl (vm_X0_within) rfl (rOk.of rfl) ?_
  refine v_if_ne F dX0_cut_9 rfl (fun hq1 => ?_) (fun hq1 => ?_)
  · rw [if_neg hq1] at h
    refine v_aload_n F dX0_cut_15 rfl rfl ?_
    refine v_iload_n F dX0_cut_16 rfl rfl ?_
    obtain ⟨d2, ed2, h⟩ := sd_some h
    refine pf_X0_160 F dX0_cut_17 hp ?_
    refine v_nD ed2 ?_
    refine v_iload_n F dX0_cut_20 rfl rfl ?_
    cases h
    cases (show _ = (d', r) from K)
    exact v_iret F dX0_cut_21
  · rw [if_pos hq1] at h
    refine v_bipush F dX0_cut_12 rfl ⟨by decide, by decide⟩ ?_
    cases h
    cases (show _ = (d', r) from K)
    exact v_iret F dX0_cut_14
theorem vm_X11_in {w : Wd} {l : Launch} {X : Dt → Dt → Prop} {d m : Dt} {a1 a2 a3 : Int} : VM w l X yX11_in cX11_in 6 (some .boolean) 0 0 0 0 d m [mL a1, mL a2, mL a3] (some (mI (fX11_in a1 a2 a3))) d m := by
  obtain ⟨r, hr⟩ : ∃ r, fX11_in a1 a2 a3 = r := ⟨_, rfl⟩
  rw [hr]
  obtain ⟨x, h, K⟩ : ∃ x, fX11_in a1 a2 a3 = x ∧ x = r := ⟨_, hr, rfl⟩
  refine VM.of (L := [mL a1, mU, mL a2, mU, mL a3, mU]) (by decide +kernel) rfl (Nat.le_of_ble_eq_true rfl) fun G F _ => ?_
  unfold fX11_in at h
  refine v_lload_n F dX11_in_0 rfl rfl ?_
  refine v_lload_n F dX11_in_1 rfl rfl ?_
  refine v_lcmp F dX11_in_2 ?_
  refine v_if_lt F dX11_in_3 rfl (fun hq1 => ?_) (fun hq1 => ?_)
  · rw [if_pos hq1] at h
    refine v_iconst F dX11_in_17 ⟨by decide, by decide⟩ ?_
    subst h
    cases (show _ = r from K)
    exact v_zret F (Or.inl rfl) dX11_in_18
  · rw [if_neg hq1] at h
    refine v_lload_n F dX11_in_6 rfl rfl ?_
    refine v_lload F dX11_in_7 rfl ?_
    refine v_lcmp F dX11_in_9 ?_
    refine v_if_gt F dX11_in_10 rfl (fun hq2 => ?_) (fun hq2 => ?_)
    · rw [if_pos hq2] at h
      refine v_iconst F dX11_in_17 ⟨by decide, by decide⟩ ?_
      subst h
      cases (show _ = r from K)
      exact v_zret F (Or.inl rfl) dX11_in_18
    · rw [if_neg hq2] at h
      refine v_iconst F dX11_in_13 ⟨by decide, by decide⟩ ?_
      refine v_goto F dX11_in_14 rfl ?_
      subst h
      cases (show _ = r from K)
      exact v_zret F (Or.inr rfl) dX11_in_18
theorem fX11_in_z {a1 a2 a3 : Int} : fX11_in a1 a2 a3 = 0 ∨ fX11_in a1 a2 a3 = 1 := by
  unfold fX11_in
  repeat' (first | exact Or.inl rfl | exact Or.inr rfl | split | assumption)
theorem vm_X11_cut {w : Wd} {l : Launch} {d m : Dt} {a1 : Int} {d' : Dt} {r : Int} (hp : PB m 1545 11) (h : fX11_cut d a1 = some (d', r)) : VM w l WF yX11_cut cX11_cut 2 (some .int) 1 25 0 0 d m [mA 1545, mI a1] (some (mI r)) d' m := by
  obtain ⟨x, h, K⟩ : ∃ x, fX11_cut d a1 = some x ∧ x = (d', r) := ⟨_, h, rfl⟩
  refine VM.of (L := [mA 1545, mI a1]) (by decide +kernel) rfl (Nat.le_of_ble_eq_true rfl) fun G F _ => v_fact fun _ hX _ _ => ?_
  unfold fX11_cut at h
  refine v_iload_n F dX11_cut_0 rfl rfl ?_
  refine v_i2l F dX11_cut_1 ?_
  refine v_lconst0 F dX11_cut_2 ?_
  refine v_aload_n F dX11_cut_3 rfl rfl ?_
  refine gf_X11_5 F dX11_cut_4 hp ?_
  refine v_i2l F dX11_cut_7 ?_
  refine v_callSv F dX11_cut_8 cs_X11_13 rfl (vm_X11_in) rfl (rOk.of rfl) ?_
  refine v_if_ne F dX11_cut_11 rfl (fun hq1 => ?_) (fun hq1 => ?_)
  · rw [if_neg hq1] at h
    refine v_aload_n F dX11_cut_17 rfl rfl ?_
    refine v_iload_n F dX11_cut_18 rfl rfl ?_
    obtain ⟨d2, ed2, h⟩ := sd_some h
    refine pf_X11_5 F dX11_cut_19 hp ?_
    refine v_nD ed2 ?_
    refine v_iload_n F dX11_cut_22 rfl rfl ?_
    cases h
    cases (show _ = (d', r) from K)
    exact v_iret F dX11_cut_23
  · rw [if_pos hq1] at h
    refine v_bipush F dX11_cut_14 rfl ⟨by decide, by decide⟩ ?_
    cases h
    cases (show _ = (d', r) from K)
    exact v_iret F dX11_cut_16
def fX7_round_3P (w : Wd) (l : Launch) (G : Cx) (Q : State → Prop) (m : Dt) (s : Dt × Int) : Prop := V w l WF G Q s.1 m 0 0 3 [mA 53, mI (s.2), mU, mU, mU, mU] []
def fX7_round_120P (w : Wd) (l : Launch) (G : Cx) (Q : State → Prop) (m : Dt) (s : Dt × Int) : Prop := V w l WF G Q s.1 m 0 0 120 [mA 53, mI (s.2), mU, mU, mU, mU] []
def fX7_round_302P (w : Wd) (l : Launch) (G : Cx) (Q : State → Prop) (m : Dt) (s : Dt × Int) : Prop := V w l WF G Q s.1 m 0 0 302 [mA 53, mI (s.2), mU, mU, mU, mU] []
theorem fX7_round_302f_ok {w : Wd} {l : Launch} {G : Cx} {m dd : Dt} {d' : Dt} {s : Dt × Int} {x : ((Dt × Int) ⊕ Dt)} (F : Fx w G cX7_round RX7 6 none { frames := 1, cells := 0, slots := 0, locals := 40 }) (hX : WF dd m) (hp : PB m 53 7) (h : fX7_round_302f s = some x) (K : (Sum.elim (fX7_round_302P w l G (QM w G WF none d' m 0 0) m) (fun q => q = d')) x) : V w l WF G (QM w G WF none d' m 0 0) s.1 m 0 0 302 [mA 53, mI (s.2), mU, mU, mU, mU] [] := by
  obtain ⟨d, v1⟩ := s
  unfold fX7_round_302f at h
  dsimp only at h
  refine v_iload_n F dX7_round_302 rfl rfl ?_
  refine v_bipush F dX7_round_303 rfl ⟨by decide, by decide⟩ ?_
  refine v_icmp_ge F dX7_round_305 rfl (fun hq4 => ?_) (fun hq4 => ?_)
  · rw [if_pos hq4] at h
    obtain ⟨z, hu, ez⟩ := up_some h
    clear h
    subst ez
    have h := hu
    clear hu
    cases h
    cases (show _ = d' from K)
    exact v_vret F dX7_round_332
  · rw [if_neg hq4] at h
    refine v_aload_n F dX7_round_308 rfl rfl ?_
    refine gf_X7_16 F dX7_round_309 hp (v := 56) rfl ?_
    refine v_iload_n F dX7_round_312 rfl rfl ?_
    refine v_gsB F dX7_round_313 q1165 ?_
    refine v_iload_n F dX7_round_316 rfl rfl ?_
    obtain ⟨hi5, h⟩ := ck_some h
    refine v_bxld F dX7_round_317 hi5 ?_
    refine v_aload_n F dX7_round_318 rfl rfl ?_
    refine gf_X7_7 F dX7_round_319 hp (v := 54) rfl ?_
    refine v_iload_n F dX7_round_322 rfl rfl ?_
    refine v_iald F dX7_round_323 (ar_X7_0 hX hp) hi5 ?_
    refine v_iadd F dX7_round_324 ?_
    obtain ⟨d6, ed6, h⟩ := sd_some h
    refine v_iast F dX7_round_325 (ar_X7_2 hX hp) hi5 ?_
    refine v_nD ed6 ?_
    obtain ⟨x7, ex7, h⟩ := lv_some h
    refine v_iincN F dX7_round_326 (Nat.le_of_ble_eq_true rfl) rfl ex7 (L' := [mA 53, mI x7, mU, mU, mU, mU]) rfl ?_
    refine v_goto F dX7_round_329 rfl ?_
    cases h
    exact K
theorem fX7_round_302_ok {w : Wd} {l : Launch} {G : Cx} {d m dd : Dt} {v1 : Int} {d' : Dt} {x : Dt} (F : Fx w G cX7_round RX7 6 none { frames := 1, cells := 0, slots := 0, locals := 40 }) (hX : WF dd m) (hp : PB m 53 7) (h : fX7_round_302 d v1 = some x) (K : (fun q => q = d') x) : V w l WF G (QM w G WF none d' m 0 0) d m 0 0 302 [mA 53, mI v1, mU, mU, mU, mU] [] := by
  unfold fX7_round_302 at h
  exact loop_ok (P := fX7_round_302P w l G (QM w G WF none d' m 0 0) m) (fun s x hx h1 h2 => fX7_round_302f_ok F hX hp hx (by
    cases x with
    | inl s' => exact h1 s' rfl
    | inr z => cases h2 z rfl; exact K)) h
theorem fX7_round_120f_ok {w : Wd} {l : Launch} {G : Cx} {m dd : Dt} {d' : Dt} {s : Dt × Int} {x : ((Dt × Int) ⊕ Dt)} (F : Fx w G cX7_round RX7 6 none { frames := 1, cells := 0, slots := 0, locals := 40 }) (hX : WF dd m) (hp : PB m 53 7) (h : fX7_round_120f s = some x) (K : (Sum.elim (fX7_round_120P w l G (QM w G WF none d' m 0 0) m) (fun q => q = d')) x) : V w l WF G (QM w G WF none d' m 0 0) s.1 m 0 0 120 [mA 53, mI (s.2), mU, mU, mU, mU] [] := by
  obtain ⟨d, v1⟩ := s
  unfold fX7_round_120f at h
  dsimp only at h
  refine v_iload_n F dX7_round_120 rfl rfl ?_
  refine v_bipush F dX7_round_121 rfl ⟨by decide, by decide⟩ ?_
  refine v_icmp_ge F dX7_round_123 rfl (fun hq3 => ?_) (fun hq3 => ?_)
  · rw [if_pos hq3] at h
    obtain ⟨z, hu, ez⟩ := up_some h
    clear h
    subst ez
    have h := hu
    clear hu
    refine v_iconst F dX7_round_300 ⟨by decide, by decide⟩ ?_
    refine v_istore_n F dX7_round_301 rfl (Nat.le_of_ble_eq_true rfl) (L' := [mA 53, mI 0, mU, mU, mU, mU]) rfl ?_
    exact fX7_round_302_ok F hX hp h K
  · rw [if_neg hq3] at h
    refine v_aload_n F dX7_round_126 rfl rfl ?_
    refine gf_X7_7 F dX7_round_127 hp (v := 54) rfl ?_
    refine v_iconst F dX7_round_130 ⟨by decide, by decide⟩ ?_
    refine v_iald F dX7_round_131 (ar_X7_0 hX hp) ⟨by decide, by decide⟩ ?_
    obtain ⟨x8, ex8, h⟩ := lv_some h
    refine v_nI ex8 ?_
    refine v_istore_n F dX7_round_132 rfl (Nat.le_of_ble_eq_true rfl) (L' := [mA 53, mI v1, mI x8, mU, mU, mU]) rfl ?_
    refine v_aload_n F dX7_round_133 rfl rfl ?_
    refine gf_X7_7 F dX7_round_134 hp (v := 54) rfl ?_
    refine v_iconst F dX7_round_137 ⟨by decide, by decide⟩ ?_
    refine v_iald F dX7_round_138 (ar_X7_0 hX hp) ⟨by decide, by decide⟩ ?_
    obtain ⟨x9, ex9, h⟩ := lv_some h
    refine v_nI ex9 ?_
    refine v_istore_n F dX7_round_139 rfl (Nat.le_of_ble_eq_true rfl) (L' := [mA 53, mI v1, mI x8, mI x9, mU, mU]) rfl ?_
    refine v_aload_n F dX7_round_140 rfl rfl ?_
    refine gf_X7_7 F dX7_round_141 hp (v := 54) rfl ?_
    refine v_bipush F dX7_round_144 rfl ⟨by decide, by decide⟩ ?_
    refine v_iald F dX7_round_146 (ar_X7_0 hX hp) ⟨by decide, by decide⟩ ?_
    refine v_iload_n F dX7_round_147 rfl rfl ?_
    refine v_bipush F dX7_round_148 rfl ⟨by decide, by decide⟩ ?_
    refine v_callSv F dX7_round_150 cs_X7_19 rfl (vm_J3_rotateRight) rfl (rOk.of rfl) ?_
    refine v_iload_n F dX7_round_153 rfl rfl ?_
    refine v_bipush F dX7_round_154 rfl ⟨by decide, by decide⟩ ?_
    refine v_callSv F dX7_round_156 cs_X7_19 rfl (vm_J3_rotateRight) rfl (rOk.of rfl) ?_
    refine v_ixor F dX7_round_159 ?_
    refine v_iload_n F dX7_round_160 rfl rfl ?_
    refine v_bipush F dX7_round_161 rfl ⟨by decide, by decide⟩ ?_
    refine v_callSv F dX7_round_163 cs_X7_19 rfl (vm_J3_rotateRight) rfl (rOk.of rfl) ?_
    refine v_ixor F dX7_round_166 ?_
    refine v_iadd F dX7_round_167 ?_
    refine v_iload_n F dX7_round_168 rfl rfl ?_
    refine v_aload_n F dX7_round_169 rfl rfl ?_
    refine gf_X7_7 F dX7_round_170 hp (v := 54) rfl ?_
    refine v_iconst F dX7_round_173 ⟨by decide, by decide⟩ ?_
    refine v_iald F dX7_round_174 (ar_X7_0 hX hp) ⟨by decide, by decide⟩ ?_
    refine v_iand F dX7_round_175 ?_
    refine v_iload_n F dX7_round_176 rfl rfl ?_
    refine v_iconst F dX7_round_177 ⟨by decide, by decide⟩ ?_
    refine v_ixor F dX7_round_178 ?_
    refine v_aload_n F dX7_round_179 rfl rfl ?_
    refine gf_X7_7 F dX7_round_180 hp (v := 54) rfl ?_
    refine v_bipush F dX7_round_183 rfl ⟨by decide, by decide⟩ ?_
    refine v_iald F dX7_round_185 (ar_X7_0 hX hp) ⟨by decide, by decide⟩ ?_
    refine v_iand F dX7_round_186 ?_
    refine v_ixor F dX7_round_187 ?_
    refine v_iadd F dX7_round_188 ?_
    refine v_gsK F dX7_round_189 q1167 ?_
    refine v_iload_n F dX7_round_192 rfl rfl ?_
    obtain ⟨hi10, h⟩ := ck_some h
    refine v_kald F dX7_round_193 hi10 ?_
    refine v_iadd F dX7_round_194 ?_
    refine v_aload_n F dX7_round_195 rfl rfl ?_
    refine gf_X7_13 F dX7_round_196 hp (v := 55) rfl ?_
    refine v_iload_n F dX7_round_199 rfl rfl ?_
    refine v_iald F dX7_round_200 (ar_X7_1 hX hp) hi10 ?_
    refine v_iadd F dX7_round_201 ?_
    obtain ⟨x11, ex11, h⟩ := lv_some h
    refine v_nI ex11 ?_
    refine v_istore F dX7_round_202 (Nat.le_of_ble_eq_true rfl) (L' := [mA 53, mI v1, mI x8, mI x9, mI x11, mU]) rfl ?_
    refine v_iload_n F dX7_round_204 rfl rfl ?_
    refine v_iconst F dX7_round_205 ⟨by decide, by decide⟩ ?_
    refine v_callSv F dX7_round_206 cs_X7_19 rfl (vm_J3_rotateRight) rfl (rOk.of rfl) ?_
    refine v_iload_n F dX7_round_209 rfl rfl ?_
    refine v_bipush F dX7_round_210 rfl ⟨by decide, by decide⟩ ?_
    refine v_callSv F dX7_round_212 cs_X7_19 rfl (vm_J3_rotateRight) rfl (rOk.of rfl) ?_
    refine v_ixor F dX7_round_215 ?_
    refine v_iload_n F dX7_round_216 rfl rfl ?_
    refine v_bipush F dX7_round_217 rfl ⟨by decide, by decide⟩ ?_
    refine v_callSv F dX7_round_219 cs_X7_19 rfl (vm_J3_rotateRight) rfl (rOk.of rfl) ?_
    refine v_ixor F dX7_round_222 ?_
    refine v_iload_n F dX7_round_223 rfl rfl ?_
    refine v_aload_n F dX7_round_224 rfl rfl ?_
    refine gf_X7_7 F dX7_round_225 hp (v := 54) rfl ?_
    refine v_iconst F dX7_round_228 ⟨by decide, by decide⟩ ?_
    refine v_iald F dX7_round_229 (ar_X7_0 hX hp) ⟨by decide, by decide⟩ ?_
    refine v_iand F dX7_round_230 ?_
    refine v_iload_n F dX7_round_231 rfl rfl ?_
    refine v_aload_n F dX7_round_232 rfl rfl ?_
    refine gf_X7_7 F dX7_round_233 hp (v := 54) rfl ?_
    refine v_iconst F dX7_round_236 ⟨by decide, by decide⟩ ?_
    refine v_iald F dX7_round_237 (ar_X7_0 hX hp) ⟨by decide, by decide⟩ ?_
    refine v_iand F dX7_round_238 ?_
    refine v_ixor F dX7_round_239 ?_
    refine v_aload_n F dX7_round_240 rfl rfl ?_
    refine gf_X7_7 F dX7_round_241 hp (v := 54) rfl ?_
    refine v_iconst F dX7_round_244 ⟨by decide, by decide⟩ ?_
    refine v_iald F dX7_round_245 (ar_X7_0 hX hp) ⟨by decide, by decide⟩ ?_
    refine v_aload_n F dX7_round_246 rfl rfl ?_
    refine gf_X7_7 F dX7_round_247 hp (v := 54) rfl ?_
    refine v_iconst F dX7_round_250 ⟨by decide, by decide⟩ ?_
    refine v_iald F dX7_round_251 (ar_X7_0 hX hp) ⟨by decide, by decide⟩ ?_
    refine v_iand F dX7_round_252 ?_
    refine v_ixor F dX7_round_253 ?_
    refine v_iadd F dX7_round_254 ?_
    obtain ⟨x12, ex12, h⟩ := lv_some h
    refine v_nI ex12 ?_
    refine v_istore F dX7_round_255 (Nat.le_of_ble_eq_true rfl) (L' := [mA 53, mI v1, mI x8, mI x9, mI x11, mI x12]) rfl ?_
    refine v_aload_n F dX7_round_257 rfl rfl ?_
    refine gf_X7_7 F dX7_round_258 hp (v := 54) rfl ?_
    refine v_iconst F dX7_round_261 ⟨by decide, by decide⟩ ?_
    refine v_aload_n F dX7_round_262 rfl rfl ?_
    refine gf_X7_7 F dX7_round_263 hp (v := 54) rfl ?_
    refine v_iconst F dX7_round_266 ⟨by decide, by decide⟩ ?_
    refine v_bipush F dX7_round_267 rfl ⟨by decide, by decide⟩ ?_
    obtain ⟨d13, ed13, h⟩ := cd_some h
    refine v_copy (t := 101) F dX7_round_269 ca_X7_28 (ar_X7_0 hX hp) (ar_X7_0 hX hp) (Nat.le_of_ble_eq_true rfl) (Or.inl rfl) rfl rfl ⟨by decide, by decide, by decide, by decide, by decide⟩ rfl ?_
    refine v_nD ed13 ?_
    refine v_aload_n F dX7_round_272 rfl rfl ?_
    refine gf_X7_7 F dX7_round_273 hp (v := 54) rfl ?_
    refine v_iconst F dX7_round_276 ⟨by decide, by decide⟩ ?_
    refine v_dup2_IA F dX7_round_277 ?_
    refine v_iald F dX7_round_278 (ar_X7_0 hX hp) ⟨by decide, by decide⟩ ?_
    refine v_iload F dX7_round_279 rfl ?_
    refine v_iadd F dX7_round_281 ?_
    obtain ⟨d14, ed14, h⟩ := sd_some h
    refine v_iast F dX7_round_282 (ar_X7_0 hX hp) ⟨by decide, by decide⟩ ?_
    refine v_nD ed14 ?_
    refine v_aload_n F dX7_round_283 rfl rfl ?_
    refine gf_X7_7 F dX7_round_284 hp (v := 54) rfl ?_
    refine v_iconst F dX7_round_287 ⟨by decide, by decide⟩ ?_
    refine v_iload F dX7_round_288 rfl ?_
    refine v_iload F dX7_round_290 rfl ?_
    refine v_iadd F dX7_round_292 ?_
    obtain ⟨d15, ed15, h⟩ := sd_some h
    refine v_iast F dX7_round_293 (ar_X7_0 hX hp) ⟨by decide, by decide⟩ ?_
    refine v_nD ed15 ?_
    obtain ⟨x16, ex16, h⟩ := lv_some h
    refine v_iincN F dX7_round_294 (Nat.le_of_ble_eq_true rfl) rfl ex16 (L' := [mA 53, mI x16, mI x8, mI x9, mI x11, mI x12]) rfl ?_
    refine v_goto F dX7_round_297 rfl ?_
    cases h
    refine v_fgt (L' := [mA 53, mI x16, mU, mU, mU, mU]) ⟨Or.inl rfl, Or.inl rfl, Or.inr rfl, Or.inr rfl, Or.inr rfl, Or.inr rfl, trivial⟩ ?_
    exact K
theorem fX7_round_120_ok {w : Wd} {l : Launch} {G : Cx} {d m dd : Dt} {v1 : Int} {d' : Dt} {x : Dt} (F : Fx w G cX7_round RX7 6 none { frames := 1, cells := 0, slots := 0, locals := 40 }) (hX : WF dd m) (hp : PB m 53 7) (h : fX7_round_120 d v1 = some x) (K : (fun q => q = d') x) : V w l WF G (QM w G WF none d' m 0 0) d m 0 0 120 [mA 53, mI v1, mU, mU, mU, mU] [] := by
  unfold fX7_round_120 at h
  exact loop_ok (P := fX7_round_120P w l G (QM w G WF none d' m 0 0) m) (fun s x hx h1 h2 => fX7_round_120f_ok F hX hp hx (by
    cases x with
    | inl s' => exact h1 s' rfl
    | inr z => cases h2 z rfl; exact K)) h
theorem fX7_round_3f_ok {w : Wd} {l : Launch} {G : Cx} {m dd : Dt} {d' : Dt} {s : Dt × Int} {x : ((Dt × Int) ⊕ Dt)} (F : Fx w G cX7_round RX7 6 none { frames := 1, cells := 0, slots := 0, locals := 40 }) (hX : WF dd m) (hp : PB m 53 7) (h : fX7_round_3f s = some x) (K : (Sum.elim (fX7_round_3P w l G (QM w G WF none d' m 0 0) m) (fun q => q = d')) x) : V w l WF G (QM w G WF none d' m 0 0) s.1 m 0 0 3 [mA 53, mI (s.2), mU, mU, mU, mU] [] := by
  obtain ⟨d, v1⟩ := s
  unfold fX7_round_3f at h
  dsimp only at h
  refine v_iload_n F dX7_round_3 rfl rfl ?_
  refine v_bipush F dX7_round_4 rfl ⟨by decide, by decide⟩ ?_
  refine v_icmp_ge F dX7_round_6 rfl (fun hq1 => ?_) (fun hq1 => ?_)
  · rw [if_pos hq1] at h
    obtain ⟨z, hu, ez⟩ := up_some h
    clear h
    subst ez
    have h := hu
    clear hu
    refine v_gsB F dX7_round_104 q1165 ?_
    refine v_iconst F dX7_round_107 ⟨by decide, by decide⟩ ?_
    refine v_aload_n F dX7_round_108 rfl rfl ?_
    refine gf_X7_7 F dX7_round_109 hp (v := 54) rfl ?_
    refine v_iconst F dX7_round_112 ⟨by decide, by decide⟩ ?_
    refine v_bipush F dX7_round_113 rfl ⟨by decide, by decide⟩ ?_
    obtain ⟨d2, ed2, h⟩ := cx_some h
    refine v_copyB F dX7_round_115 ca_X7_28 (ar_X7_0 hX hp) ⟨by decide, by decide, by decide, by decide, by decide⟩ rfl ?_
    refine v_nD ed2 ?_
    refine v_iconst F dX7_round_118 ⟨by decide, by decide⟩ ?_
    refine v_istore_n F dX7_round_119 rfl (Nat.le_of_ble_eq_true rfl) (L' := [mA 53, mI 0, mU, mU, mU, mU]) rfl ?_
    exact fX7_round_120_ok F hX hp h K
  · rw [if_neg hq1] at h
    refine v_aload_n F dX7_round_9 rfl rfl ?_
    refine gf_X7_13 F dX7_round_10 hp (v := 55) rfl ?_
    refine v_iload_n F dX7_round_13 rfl rfl ?_
    refine v_bipush F dX7_round_14 rfl ⟨by decide, by decide⟩ ?_
    refine v_isub F dX7_round_16 ?_
    obtain ⟨x17, ex17, h⟩ := lv_some h
    refine v_nI ex17 ?_
    obtain ⟨hi18, h⟩ := ck_some h
    refine v_iald F dX7_round_17 (ar_X7_1 hX hp) hi18 ?_
    obtain ⟨x19, ex19, h⟩ := lv_some h
    refine v_nI ex19 ?_
    refine v_istore_n F dX7_round_18 rfl (Nat.le_of_ble_eq_true rfl) (L' := [mA 53, mI v1, mI x19, mU, mU, mU]) rfl ?_
    refine v_aload_n F dX7_round_19 rfl rfl ?_
    refine gf_X7_13 F dX7_round_20 hp (v := 55) rfl ?_
    refine v_iload_n F dX7_round_23 rfl rfl ?_
    refine v_iconst F dX7_round_24 ⟨by decide, by decide⟩ ?_
    refine v_isub F dX7_round_25 ?_
    obtain ⟨x20, ex20, h⟩ := lv_some h
    refine v_nI ex20 ?_
    obtain ⟨hi21, h⟩ := ck_some h
    refine v_iald F dX7_round_26 (ar_X7_1 hX hp) hi21 ?_
    obtain ⟨x22, ex22, h⟩ := lv_some h
    refine v_nI ex22 ?_
    refine v_istore_n F dX7_round_27 rfl (Nat.le_of_ble_eq_true rfl) (L' := [mA 53, mI v1, mI x19, mI x22, mU, mU]) rfl ?_
    refine v_iload_n F dX7_round_28 rfl rfl ?_
    refine v_bipush F dX7_round_29 rfl ⟨by decide, by decide⟩ ?_
    refine v_callSv F dX7_round_31 cs_X7_19 rfl (vm_J3_rotateRight) rfl (rOk.of rfl) ?_
    refine v_iload_n F dX7_round_34 rfl rfl ?_
    refine v_bipush F dX7_round_35 rfl ⟨by decide, by decide⟩ ?_
    refine v_callSv F dX7_round_37 cs_X7_19 rfl (vm_J3_rotateRight) rfl (rOk.of rfl) ?_
    refine v_ixor F dX7_round_40 ?_
    refine v_iload_n F dX7_round_41 rfl rfl ?_
    refine v_iconst F dX7_round_42 ⟨by decide, by decide⟩ ?_
    refine v_iushr F dX7_round_43 ?_
    refine v_ixor F dX7_round_44 ?_
    obtain ⟨x23, ex23, h⟩ := lv_some h
    refine v_nI ex23 ?_
    refine v_istore F dX7_round_45 (Nat.le_of_ble_eq_true rfl) (L' := [mA 53, mI v1, mI x19, mI x22, mI x23, mU]) rfl ?_
    refine v_iload_n F dX7_round_47 rfl rfl ?_
    refine v_bipush F dX7_round_48 rfl ⟨by decide, by decide⟩ ?_
    refine v_callSv F dX7_round_50 cs_X7_19 rfl (vm_J3_rotateRight) rfl (rOk.of rfl) ?_
    refine v_iload_n F dX7_round_53 rfl rfl ?_
    refine v_bipush F dX7_round_54 rfl ⟨by decide, by decide⟩ ?_
    refine v_callSv F dX7_round_56 cs_X7_19 rfl (vm_J3_rotateRight) rfl (rOk.of rfl) ?_
    refine v_ixor F dX7_round_59 ?_
    refine v_iload_n F dX7_round_60 rfl rfl ?_
    refine v_bipush F dX7_round_61 rfl ⟨by decide, by decide⟩ ?_
    refine v_iushr F dX7_round_63 ?_
    refine v_ixor F dX7_round_64 ?_
    obtain ⟨x24, ex24, h⟩ := lv_some h
    refine v_nI ex24 ?_
    refine v_istore F dX7_round_65 (Nat.le_of_ble_eq_true rfl) (L' := [mA 53, mI v1, mI x19, mI x22, mI x23, mI x24]) rfl ?_
    refine v_aload_n F dX7_round_67 rfl rfl ?_
    refine gf_X7_13 F dX7_round_68 hp (v := 55) rfl ?_
    refine v_iload_n F dX7_round_71 rfl rfl ?_
    refine v_aload_n F dX7_round_72 rfl rfl ?_
    refine gf_X7_13 F dX7_round_73 hp (v := 55) rfl ?_
    refine v_iload_n F dX7_round_76 rfl rfl ?_
    refine v_bipush F dX7_round_77 rfl ⟨by decide, by decide⟩ ?_
    refine v_isub F dX7_round_79 ?_
    obtain ⟨x25, ex25, h⟩ := lv_some h
    refine v_nI ex25 ?_
    obtain ⟨hi26, h⟩ := ck_some h
    refine v_iald F dX7_round_80 (ar_X7_1 hX hp) hi26 ?_
    refine v_iload F dX7_round_81 rfl ?_
    refine v_iadd F dX7_round_83 ?_
    refine v_aload_n F dX7_round_84 rfl rfl ?_
    refine gf_X7_13 F dX7_round_85 hp (v := 55) rfl ?_
    refine v_iload_n F dX7_round_88 rfl rfl ?_
    refine v_bipush F dX7_round_89 rfl ⟨by decide, by decide⟩ ?_
    refine v_isub F dX7_round_91 ?_
    obtain ⟨x27, ex27, h⟩ := lv_some h
    refine v_nI ex27 ?_
    obtain ⟨hi28, h⟩ := ck_some h
    refine v_iald F dX7_round_92 (ar_X7_1 hX hp) hi28 ?_
    refine v_iadd F dX7_round_93 ?_
    refine v_iload F dX7_round_94 rfl ?_
    refine v_iadd F dX7_round_96 ?_
    obtain ⟨hi29, h⟩ := ck_some h
    obtain ⟨d30, ed30, h⟩ := sd_some h
    refine v_iast F dX7_round_97 (ar_X7_1 hX hp) hi29 ?_
    refine v_nD ed30 ?_
    obtain ⟨x31, ex31, h⟩ := lv_some h
    refine v_iincN F dX7_round_98 (Nat.le_of_ble_eq_true rfl) rfl ex31 (L' := [mA 53, mI x31, mI x19, mI x22, mI x23, mI x24]) rfl ?_
    refine v_goto F dX7_round_101 rfl ?_
    cases h
    refine v_fgt (L' := [mA 53, mI x31, mU, mU, mU, mU]) ⟨Or.inl rfl, Or.inl rfl, Or.inr rfl, Or.inr rfl, Or.inr rfl, Or.inr rfl, trivial⟩ ?_
    exact K
theorem fX7_round_3_ok {w : Wd} {l : Launch} {G : Cx} {d m dd : Dt} {v1 : Int} {d' : Dt} {x : Dt} (F : Fx w G cX7_round RX7 6 none { frames := 1, cells := 0, slots := 0, locals := 40 }) (hX : WF dd m) (hp : PB m 53 7) (h : fX7_round_3 d v1 = some x) (K : (fun q => q = d') x) : V w l WF G (QM w G WF none d' m 0 0) d m 0 0 3 [mA 53, mI v1, mU, mU, mU, mU] [] := by
  unfold fX7_round_3 at h
  exact loop_ok (P := fX7_round_3P w l G (QM w G WF none d' m 0 0) m) (fun s x hx h1 h2 => fX7_round_3f_ok F hX hp hx (by
    cases x with
    | inl s' => exact h1 s' rfl
    | inr z => cases h2 z rfl; exact K)) h
theorem vm_X7_round {w : Wd} {l : Launch} {d m : Dt} {d' : Dt} (hp : PB m 53 7) (h : fX7_round d = some d') : VM w l WF yX7_round cX7_round 6 none 1 40 0 0 d m [mA 53] none d' m := by
  obtain ⟨x, h, K⟩ : ∃ x, fX7_round d = some x ∧ x = d' := ⟨_, h, rfl⟩
  refine VM.of (L := [mA 53, mU, mU, mU, mU, mU]) (by decide +kernel) rfl (Nat.le_of_ble_eq_true rfl) fun G F _ => v_fact fun _ hX _ _ => ?_
  unfold fX7_round at h
  refine v_bipush F dX7_round_0 rfl ⟨by decide, by decide⟩ ?_
  refine v_istore_n F dX7_round_2 rfl (Nat.le_of_ble_eq_true rfl) (L' := [mA 53, mI 16, mU, mU, mU, mU]) rfl ?_
  exact fX7_round_3_ok F hX hp h K
theorem vm_X7_add {w : Wd} {l : Launch} {d m : Dt} {a1 a2 a3 a4 a5 : Int} {d' : Dt} (hp : PB m 53 7) (h : fX7_add d a1 a2 a3 a4 a5 = some d') : VM w l WF yX7_add cX7_add 6 none 2 65 0 0 d m [mA 53, mI a1, mI a2, mI a3, mI a4, mI a5] none d' m := by
  obtain ⟨x, h, K⟩ : ∃ x, fX7_add d a1 a2 a3 a4 a5 = some x ∧ x = d' := ⟨_, h, rfl⟩
  refine VM.of (L := [mA 53, mI a1, mI a2, mI a3, mI a4, mI a5]) (by decide +kernel) rfl (Nat.le_of_ble_eq_true rfl) fun G F _ => v_fact fun _ hX _ _ => ?_
  unfold fX7_add at h
  refine v_aload_n F dX7_add_0 rfl rfl ?_
  refine gf_X7_16 F dX7_add_1 hp (v := 56) rfl ?_
  refine v_iconst F dX7_add_4 ⟨by decide, by decide⟩ ?_
  refine v_aload_n F dX7_add_5 rfl rfl ?_
  refine gf_X7_13 F dX7_add_6 hp (v := 55) rfl ?_
  refine v_iconst F dX7_add_9 ⟨by decide, by decide⟩ ?_
  refine v_bipush F dX7_add_10 rfl ⟨by decide, by decide⟩ ?_
  obtain ⟨d1, ed1, h⟩ := cd_some h
  refine v_copy (t := 101) F dX7_add_12 ca_X7_28 (ar_X7_2 hX hp) (ar_X7_1 hX hp) (Nat.le_of_ble_eq_true rfl) (Or.inl rfl) rfl rfl ⟨by decide, by decide, by decide, by decide, by decide⟩ rfl ?_
  refine v_nD ed1 ?_
  refine v_aload_n F dX7_add_15 rfl rfl ?_
  refine gf_X7_13 F dX7_add_16 hp (v := 55) rfl ?_
  refine v_bipush F dX7_add_19 rfl ⟨by decide, by decide⟩ ?_
  refine v_iload_n F dX7_add_21 rfl rfl ?_
  obtain ⟨d2, ed2, h⟩ := sd_some h
  refine v_iast F dX7_add_22 (ar_X7_1 hX hp) ⟨by decide, by decide⟩ ?_
  refine v_nD ed2 ?_
  refine v_aload_n F dX7_add_23 rfl rfl ?_
  refine gf_X7_13 F dX7_add_24 hp (v := 55) rfl ?_
  refine v_bipush F dX7_add_27 rfl ⟨by decide, by decide⟩ ?_
  refine v_iload_n F dX7_add_29 rfl rfl ?_
  obtain ⟨d3, ed3, h⟩ := sd_some h
  refine v_iast F dX7_add_30 (ar_X7_1 hX hp) ⟨by decide, by decide⟩ ?_
  refine v_nD ed3 ?_
  refine v_aload_n F dX7_add_31 rfl rfl ?_
  refine gf_X7_13 F dX7_add_32 hp (v := 55) rfl ?_
  refine v_bipush F dX7_add_35 rfl ⟨by decide, by decide⟩ ?_
  refine v_iload_n F dX7_add_37 rfl rfl ?_
  obtain ⟨d4, ed4, h⟩ := sd_some h
  refine v_iast F dX7_add_38 (ar_X7_1 hX hp) ⟨by decide, by decide⟩ ?_
  refine v_nD ed4 ?_
  refine v_aload_n F dX7_add_39 rfl rfl ?_
  refine gf_X7_13 F dX7_add_40 hp (v := 55) rfl ?_
  refine v_bipush F dX7_add_43 rfl ⟨by decide, by decide⟩ ?_
  refine v_iload F dX7_add_45 rfl ?_
  obtain ⟨d5, ed5, h⟩ := sd_some h
  refine v_iast F dX7_add_47 (ar_X7_1 hX hp) ⟨by decide, by decide⟩ ?_
  refine v_nD ed5 ?_
  refine v_aload_n F dX7_add_48 rfl rfl ?_
  refine gf_X7_13 F dX7_add_49 hp (v := 55) rfl ?_
  refine v_bipush F dX7_add_52 rfl ⟨by decide, by decide⟩ ?_
  refine v_iload F dX7_add_54 rfl ?_
  obtain ⟨d6, ed6, h⟩ := sd_some h
  refine v_iast F dX7_add_56 (ar_X7_1 hX hp) ⟨by decide, by decide⟩ ?_
  refine v_nD ed6 ?_
  refine v_aload_n F dX7_add_57 rfl rfl ?_
  refine gf_X7_13 F dX7_add_58 hp (v := 55) rfl ?_
  refine v_bipush F dX7_add_61 rfl ⟨by decide, by decide⟩ ?_
  refine v_ldc (n := (-2147483648)) F dX7_add_63 q1157 rfl ⟨by decide, by decide⟩ ?_
  obtain ⟨d7, ed7, h⟩ := sd_some h
  refine v_iast F dX7_add_65 (ar_X7_1 hX hp) ⟨by decide, by decide⟩ ?_
  refine v_nD ed7 ?_
  refine v_aload_n F dX7_add_66 rfl rfl ?_
  refine gf_X7_13 F dX7_add_67 hp (v := 55) rfl ?_
  refine v_bipush F dX7_add_70 rfl ⟨by decide, by decide⟩ ?_
  refine v_iconst F dX7_add_72 ⟨by decide, by decide⟩ ?_
  obtain ⟨d8, ed8, h⟩ := sd_some h
  refine v_iast F dX7_add_73 (ar_X7_1 hX hp) ⟨by decide, by decide⟩ ?_
  refine v_nD ed8 ?_
  refine v_aload_n F dX7_add_74 rfl rfl ?_
  refine gf_X7_13 F dX7_add_75 hp (v := 55) rfl ?_
  refine v_bipush F dX7_add_78 rfl ⟨by decide, by decide⟩ ?_
  refine v_sipush F dX7_add_80 rfl ⟨by decide, by decide⟩ ?_
  obtain ⟨d9, ed9, h⟩ := sd_some h
  refine v_iast F dX7_add_83 (ar_X7_1 hX hp) ⟨by decide, by decide⟩ ?_
  refine v_nD ed9 ?_
  refine v_aload_n F dX7_add_84 rfl rfl ?_
  obtain ⟨d10, hc11, h⟩ := bd_some h
  refine v_callV0 (c := 7) F dX7_add_85 cv_X7_38 rfl (PB.ob hp hX (Nat.le_of_ble_eq_true rfl)) (Nat.le_of_ble_eq_true rfl) rfl (vm_X7_round hp hc11) rfl (rOk.of rfl) ?_
  cases h
  cases (show _ = d' from K)
  exact v_vret F dX7_add_88
theorem vm_X0_write {w : Wd} {l : Launch} {d m : Dt} {a1 a2 a3 a4 a5 : Int} {d' : Dt} (hp : PB m 1 0) (h : fX0_write d a1 a2 a3 a4 a5 = some d') : VM w l WF yX0_write cX0_write 6 none 3 90 0 0 d m [mA 1, mI a1, mI a2, mI a3, mI a4, mI a5] none d' m := by
  obtain ⟨x, h, K⟩ : ∃ x, fX0_write d a1 a2 a3 a4 a5 = some x ∧ x = d' := ⟨_, h, rfl⟩
  refine VM.of (L := [mA 1, mI a1, mI a2, mI a3, mI a4, mI a5]) (by decide +kernel) rfl (Nat.le_of_ble_eq_true rfl) fun G F _ => v_fact fun _ hX _ _ => ?_
  unfold fX0_write at h
  refine v_aload_n F dX0_write_0 rfl rfl ?_
  refine gf_X0_56 F dX0_write_1 hp (v := 53) rfl ?_
  refine v_iload_n F dX0_write_4 rfl rfl ?_
  refine v_iload_n F dX0_write_5 rfl rfl ?_
  refine v_iload_n F dX0_write_6 rfl rfl ?_
  refine v_iload F dX0_write_7 rfl ?_
  refine v_iload F dX0_write_9 rfl ?_
  obtain ⟨d1, hc2, h⟩ := bd_some h
  refine v_callV0 (c := 7) F dX0_write_11 cv_X0_153 rfl (PB.ob (ob_X0_11 hX hp) hX (Nat.le_of_ble_eq_true rfl)) (Nat.le_of_ble_eq_true rfl) rfl (vm_X7_add (ob_X0_11 hX hp) hc2) rfl (rOk.of rfl) ?_
  refine v_aload_n F dX0_write_14 rfl rfl ?_
  refine v_dup_A F dX0_write_15 ?_
  refine gf_X0_157 F dX0_write_16 hp ?_
  refine v_iconst F dX0_write_19 ⟨by decide, by decide⟩ ?_
  refine v_iadd F dX0_write_20 ?_
  obtain ⟨d3, ed3, h⟩ := sd_some h
  refine pf_X0_157 F dX0_write_21 hp ?_
  refine v_nD ed3 ?_
  cases h
  cases (show _ = d' from K)
  exact v_vret F dX0_write_24
theorem vm_X0_day {w : Wd} {l : Launch} {d m : Dt} {a1 : Int} {d' : Dt} {r : Int} (hp : PB m 1 0) (h : fX0_day d a1 = some (d', r)) : VM w l WF yX0_day cX0_day 2 (some .int) 4 115 0 0 d m [mA 1, mI a1] (some (mI r)) d' m := by
  obtain ⟨x, h, K⟩ : ∃ x, fX0_day d a1 = some x ∧ x = (d', r) := ⟨_, h, rfl⟩
  refine VM.of (L := [mA 1, mI a1]) (by decide +kernel) rfl (Nat.le_of_ble_eq_true rfl) fun G F _ => v_fact fun _ hX _ _ => ?_
  unfold fX0_day at h
  refine v_iload_n F dX0_day_0 rfl rfl ?_
  refine v_aload_n F dX0_day_1 rfl rfl ?_
  refine gf_X0_167 F dX0_day_2 hp ?_
  refine v_ldc (n := 36524) F dX0_day_5 q1145 rfl ⟨by decide, by decide⟩ ?_
  refine v_callSv F dX0_day_7 cs_X0_163 rfl (vm_X0_within) rfl (rOk.of rfl) ?_
  refine v_if_ne F dX0_day_10 rfl (fun hq1 => ?_) (fun hq1 => ?_)
  · rw [if_neg hq1] at h
    refine v_aload_n F dX0_day_16 rfl rfl ?_
    refine v_iload_n F dX0_day_17 rfl rfl ?_
    obtain ⟨d2, ed2, h⟩ := sd_some h
    refine pf_X0_167 F dX0_day_18 hp ?_
    refine v_nD ed2 ?_
    refine v_aload_n F dX0_day_21 rfl rfl ?_
    refine v_iconst F dX0_day_22 ⟨by decide, by decide⟩ ?_
    refine v_iload_n F dX0_day_23 rfl rfl ?_
    refine v_iconst F dX0_day_24 ⟨by decide, by decide⟩ ?_
    refine v_iconst F dX0_day_25 ⟨by decide, by decide⟩ ?_
    refine v_iconst F dX0_day_26 ⟨by decide, by decide⟩ ?_
    obtain ⟨d3, hc4, h⟩ := bd_some h
    refine v_callV0 (c := 0) F dX0_day_27 cv_X0_173 rfl (PB.ob hp hX (Nat.le_of_ble_eq_true rfl)) (Nat.le_of_ble_eq_true rfl) rfl (vm_X0_write hp hc4) rfl (rOk.of rfl) ?_
    refine v_iload_n F dX0_day_30 rfl rfl ?_
    cases h
    cases (show _ = (d', r) from K)
    exact v_iret F dX0_day_31
  · rw [if_pos hq1] at h
    refine v_bipush F dX0_day_13 rfl ⟨by decide, by decide⟩ ?_
    cases h
    cases (show _ = (d', r) from K)
    exact v_iret F dX0_day_15
def fX11_lay4_3P (w : Wd) (l : Launch) (G : Cx) (Q : State → Prop) (m : Dt) (a1 n1 a2 a3 : Int) (s : Dt × Int) : Prop := V w l WF G Q s.1 m 0 0 3 [mU, mA a1, mI a2, mI a3, mI (s.2)] []
theorem fX11_lay4_3f_ok {w : Wd} {l : Launch} {G : Cx} {m dd : Dt} {a1 n1 a2 a3 : Int} {d' : Dt} {s : Dt × Int} {x : ((Dt × Int) ⊕ Dt)} (F : Fx w G cX11_lay4 RX11 5 none { frames := 0, cells := 0, slots := 0, locals := 0 }) (hX : WF dd m) (hp : PB m 1545 11) (hp1 : AR m a1 102 n1) (h : fX11_lay4_3f a1 n1 a2 a3 s = some x) (K : (Sum.elim (fX11_lay4_3P w l G (QM w G WF none d' m 0 0) m a1 n1 a2 a3) (fun q => q = d')) x) : V w l WF G (QM w G WF none d' m 0 0) s.1 m 0 0 3 [mU, mA a1, mI a2, mI a3, mI (s.2)] [] := by
  obtain ⟨d, v4⟩ := s
  unfold fX11_lay4_3f at h
  dsimp only at h
  refine v_iload F dX11_lay4_3 rfl ?_
  refine v_iconst F dX11_lay4_5 ⟨by decide, by decide⟩ ?_
  refine v_icmp_ge F dX11_lay4_6 rfl (fun hq1 => ?_) (fun hq1 => ?_)
  · rw [if_pos hq1] at h
    obtain ⟨z, hu, ez⟩ := up_some h
    clear h
    subst ez
    have h := hu
    clear hu
    cases h
    cases (show _ = d' from K)
    exact v_vret F dX11_lay4_32
  · rw [if_neg hq1] at h
    refine v_aload_n F dX11_lay4_9 rfl rfl ?_
    refine v_iload_n F dX11_lay4_10 rfl rfl ?_
    refine v_iload F dX11_lay4_11 rfl ?_
    refine v_iadd F dX11_lay4_13 ?_
    refine v_iload_n F dX11_lay4_14 rfl rfl ?_
    refine v_bipush F dX11_lay4_15 rfl ⟨by decide, by decide⟩ ?_
    refine v_bipush F dX11_lay4_17 rfl ⟨by decide, by decide⟩ ?_
    refine v_iload F dX11_lay4_19 rfl ?_
    refine v_imul F dX11_lay4_21 ?_
    refine v_isub F dX11_lay4_22 ?_
    refine v_ishr F dX11_lay4_23 ?_
    refine v_i2b F dX11_lay4_24 ?_
    obtain ⟨x2, ex2, h⟩ := lv_some h
    refine v_n2 ex2 ?_
    obtain ⟨hi3, h⟩ := ck_some h
    obtain ⟨d4, ed4, h⟩ := sd_some h
    refine v_bast F dX11_lay4_25 hp1 hi3 ?_
    refine v_nD ed4 ?_
    obtain ⟨x5, ex5, h⟩ := lv_some h
    refine v_iincN F dX11_lay4_26 (Nat.le_of_ble_eq_true rfl) rfl ex5 (L' := [mU, mA a1, mI a2, mI a3, mI x5]) rfl ?_
    refine v_goto F dX11_lay4_29 rfl ?_
    cases h
    exact K
theorem fX11_lay4_3_ok {w : Wd} {l : Launch} {G : Cx} {d m dd : Dt} {a1 n1 a2 a3 v4 : Int} {d' : Dt} {x : Dt} (F : Fx w G cX11_lay4 RX11 5 none { frames := 0, cells := 0, slots := 0, locals := 0 }) (hX : WF dd m) (hp : PB m 1545 11) (hp1 : AR m a1 102 n1) (h : fX11_lay4_3 d a1 n1 a2 a3 v4 = some x) (K : (fun q => q = d') x) : V w l WF G (QM w G WF none d' m 0 0) d m 0 0 3 [mU, mA a1, mI a2, mI a3, mI v4] [] := by
  unfold fX11_lay4_3 at h
  exact loop_ok (P := fX11_lay4_3P w l G (QM w G WF none d' m 0 0) m a1 n1 a2 a3) (fun s x hx h1 h2 => fX11_lay4_3f_ok F hX hp hp1 hx (by
    cases x with
    | inl s' => exact h1 s' rfl
    | inr z => cases h2 z rfl; exact K)) h
theorem vm_X11_lay4 {w : Wd} {l : Launch} {d m : Dt} {a1 n1 a2 a3 : Int} {d' : Dt} (hp : PB m 1545 11) (hp1 : AR m a1 102 n1) (h : fX11_lay4 d a1 n1 a2 a3 = some d') : VM w l WF yX11_lay4 cX11_lay4 5 none 0 0 0 0 d m [mA 1545, mA a1, mI a2, mI a3] none d' m := by
  obtain ⟨x, h, K⟩ : ∃ x, fX11_lay4 d a1 n1 a2 a3 = some x ∧ x = d' := ⟨_, h, rfl⟩
  refine VM.of (L := [mA 1545, mA a1, mI a2, mI a3, mU]) (by decide +kernel) rfl (Nat.le_of_ble_eq_true rfl) fun G F _ => v_fact fun _ hX _ _ => ?_
  unfold fX11_lay4 at h
  refine v_iconst F dX11_lay4_0 ⟨by decide, by decide⟩ ?_
  refine v_istore F dX11_lay4_1 (Nat.le_of_ble_eq_true rfl) (L' := [mA 1545, mA a1, mI a2, mI a3, mI 0]) rfl ?_
  refine v_fgt (L' := [mU, mA a1, mI a2, mI a3, mI 0]) ⟨Or.inr rfl, Or.inl rfl, Or.inl rfl, Or.inl rfl, Or.inl rfl, trivial⟩ ?_
  exact fX11_lay4_3_ok F hX hp hp1 h K
theorem vm_X11_turn {w : Wd} {l : Launch} {X : Dt → Dt → Prop} {d m : Dt} {a1 a2 : Int} : VM w l X yX11_turn cX11_turn 2 (some .int) 0 0 0 0 d m [mI a1, mI a2] (some (mI (fX11_turn a1 a2))) d m := by
  obtain ⟨r, hr⟩ : ∃ r, fX11_turn a1 a2 = r := ⟨_, rfl⟩
  rw [hr]
  obtain ⟨x, h, K⟩ : ∃ x, fX11_turn a1 a2 = x ∧ x = r := ⟨_, hr, rfl⟩
  refine VM.of (L := [mI a1, mI a2]) (by decide +kernel) rfl (Nat.le_of_ble_eq_true rfl) fun G F _ => ?_
  unfold fX11_turn at h
  refine v_iload_n F dX11_turn_0 rfl rfl ?_
  refine v_iload_n F dX11_turn_1 rfl rfl ?_
  refine v_iushr F dX11_turn_2 ?_
  refine v_iload_n F dX11_turn_3 rfl rfl ?_
  refine v_bipush F dX11_turn_4 rfl ⟨by decide, by decide⟩ ?_
  refine v_iload_n F dX11_turn_6 rfl rfl ?_
  refine v_isub F dX11_turn_7 ?_
  refine v_ishl F dX11_turn_8 ?_
  refine v_ior F dX11_turn_9 ?_
  subst h
  cases (show _ = r from K)
  exact v_iret F dX11_turn_10
def fX11_digest_2P (w : Wd) (l : Launch) (G : Cx) (Q : State → Prop) (m : Dt) (s : Dt × Int) : Prop := V w l WF G Q s.1 m 0 0 2 [mA 1545, mI (s.2), mU, mU, mU, mU, mU] []
def fX11_digest_178P (w : Wd) (l : Launch) (G : Cx) (Q : State → Prop) (m : Dt) (s : Dt × Int) : Prop := V w l WF G Q s.1 m 0 0 178 [mA 1545, mI (s.2), mU, mU, mU, mU, mU] []
def fX11_digest_204P (w : Wd) (l : Launch) (G : Cx) (Q : State → Prop) (m : Dt) (s : Dt × Int) : Prop := V w l WF G Q s.1 m 0 0 204 [mA 1545, mI (s.2), mU, mU, mU, mU, mU] []
def fX11_digest_403P (w : Wd) (l : Launch) (G : Cx) (Q : State → Prop) (m : Dt) (s : Dt × Int) : Prop := V w l WF G Q s.1 m 0 0 403 [mA 1545, mI (s.2), mU, mU, mU, mU, mU] []
theorem fX11_digest_403f_ok {w : Wd} {l : Launch} {G : Cx} {m dd : Dt} {d' : Dt} {s : Dt × Int} {x : ((Dt × Int) ⊕ Dt)} (F : Fx w G cX11_digest RX11 7 none { frames := 1, cells := 0, slots := 0, locals := 21 }) (hX : WF dd m) (hp : PB m 1545 11) (h : fX11_digest_403f s = some x) (K : (Sum.elim (fX11_digest_403P w l G (QM w G WF none d' m 0 0) m) (fun q => q = d')) x) : V w l WF G (QM w G WF none d' m 0 0) s.1 m 0 0 403 [mA 1545, mI (s.2), mU, mU, mU, mU, mU] [] := by
  obtain ⟨d, v1⟩ := s
  unfold fX11_digest_403f at h
  dsimp only at h
  refine v_iload_n F dX11_digest_403 rfl rfl ?_
  refine v_bipush F dX11_digest_404 rfl ⟨by decide, by decide⟩ ?_
  refine v_icmp_ge F dX11_digest_406 rfl (fun hq4 => ?_) (fun hq4 => ?_)
  · rw [if_pos hq4] at h
    obtain ⟨z, hu, ez⟩ := up_some h
    clear h
    subst ez
    have h := hu
    clear hu
    cases h
    cases (show _ = d' from K)
    exact v_vret F dX11_digest_434
  · rw [if_neg hq4] at h
    refine v_aload_n F dX11_digest_409 rfl rfl ?_
    refine gf_X11_1150 F dX11_digest_410 hp (v := 1662) rfl ?_
    refine v_iload_n F dX11_digest_413 rfl rfl ?_
    refine v_aload_n F dX11_digest_414 rfl rfl ?_
    refine gf_X11_1231 F dX11_digest_415 hp (v := 1665) rfl ?_
    refine v_iload_n F dX11_digest_418 rfl rfl ?_
    obtain ⟨hi5, h⟩ := ck_some h
    refine v_iald F dX11_digest_419 (ar_X11_171 hX hp) hi5 ?_
    refine v_aload_n F dX11_digest_420 rfl rfl ?_
    refine gf_X11_1153 F dX11_digest_421 hp (v := 1663) rfl ?_
    refine v_iload_n F dX11_digest_424 rfl rfl ?_
    refine v_iald F dX11_digest_425 (ar_X11_169 hX hp) hi5 ?_
    refine v_iadd F dX11_digest_426 ?_
    obtain ⟨d6, ed6, h⟩ := sd_some h
    refine v_iast F dX11_digest_427 (ar_X11_168 hX hp) hi5 ?_
    refine v_nD ed6 ?_
    obtain ⟨x7, ex7, h⟩ := lv_some h
    refine v_iincN F dX11_digest_428 (Nat.le_of_ble_eq_true rfl) rfl ex7 (L' := [mA 1545, mI x7, mU, mU, mU, mU, mU]) rfl ?_
    refine v_goto F dX11_digest_431 rfl ?_
    cases h
    exact K
theorem fX11_digest_403_ok {w : Wd} {l : Launch} {G : Cx} {d m dd : Dt} {v1 : Int} {d' : Dt} {x : Dt} (F : Fx w G cX11_digest RX11 7 none { frames := 1, cells := 0, slots := 0, locals := 21 }) (hX : WF dd m) (hp : PB m 1545 11) (h : fX11_digest_403 d v1 = some x) (K : (fun q => q = d') x) : V w l WF G (QM w G WF none d' m 0 0) d m 0 0 403 [mA 1545, mI v1, mU, mU, mU, mU, mU] [] := by
  unfold fX11_digest_403 at h
  exact loop_ok (P := fX11_digest_403P w l G (QM w G WF none d' m 0 0) m) (fun s x hx h1 h2 => fX11_digest_403f_ok F hX hp hx (by
    cases x with
    | inl s' => exact h1 s' rfl
    | inr z => cases h2 z rfl; exact K)) h
def fX11_digest_346P (w : Wd) (l : Launch) (G : Cx) (Q : State → Prop) (m : Dt) (v1 v4 v5 : Int) (s : Dt × Int) : Prop := V w l WF G Q s.1 m 0 0 346 [mA 1545, mI v1, mU, mU, mI v4, mI v5, mI (s.2)] []
theorem fX11_digest_346f_ok {w : Wd} {l : Launch} {G : Cx} {m dd : Dt} {v1 v4 v5 : Int} {d' : Dt} {s : Dt × Int} {x : ((Dt × Int) ⊕ ((Dt × Int) ⊕ Dt))} (F : Fx w G cX11_digest RX11 7 none { frames := 1, cells := 0, slots := 0, locals := 21 }) (hX : WF dd m) (hp : PB m 1545 11) (h : fX11_digest_346f v1 v4 v5 s = some x) (K : (Sum.elim (fX11_digest_346P w l G (QM w G WF none d' m 0 0) m v1 v4 v5) (Sum.elim (fX11_digest_204P w l G (QM w G WF none d' m 0 0) m) (fun q => q = d'))) x) : V w l WF G (QM w G WF none d' m 0 0) s.1 m 0 0 346 [mA 1545, mI v1, mU, mU, mI v4, mI v5, mI (s.2)] [] := by
  obtain ⟨d, v6⟩ := s
  unfold fX11_digest_346f at h
  dsimp only at h
  refine v_iload F dX11_digest_346 rfl ?_
  refine v_if_le F dX11_digest_348 rfl (fun hq13 => ?_) (fun hq13 => ?_)
  · rw [if_pos hq13] at h
    obtain ⟨z, hu, ez⟩ := up_some h
    clear h
    subst ez
    have h := hu
    clear hu
    refine v_aload_n F dX11_digest_373 rfl rfl ?_
    refine gf_X11_1153 F dX11_digest_374 hp (v := 1663) rfl ?_
    refine v_iconst F dX11_digest_377 ⟨by decide, by decide⟩ ?_
    refine v_dup2_IA F dX11_digest_378 ?_
    refine v_iald F dX11_digest_379 (ar_X11_169 hX hp) ⟨by decide, by decide⟩ ?_
    refine v_iload F dX11_digest_380 rfl ?_
    refine v_iadd F dX11_digest_382 ?_
    obtain ⟨d14, ed14, h⟩ := sd_some h
    refine v_iast F dX11_digest_383 (ar_X11_169 hX hp) ⟨by decide, by decide⟩ ?_
    refine v_nD ed14 ?_
    refine v_aload_n F dX11_digest_384 rfl rfl ?_
    refine gf_X11_1153 F dX11_digest_385 hp (v := 1663) rfl ?_
    refine v_iconst F dX11_digest_388 ⟨by decide, by decide⟩ ?_
    refine v_iload F dX11_digest_389 rfl ?_
    refine v_iload F dX11_digest_391 rfl ?_
    refine v_iadd F dX11_digest_393 ?_
    obtain ⟨d15, ed15, h⟩ := sd_some h
    refine v_iast F dX11_digest_394 (ar_X11_169 hX hp) ⟨by decide, by decide⟩ ?_
    refine v_nD ed15 ?_
    obtain ⟨x16, ex16, h⟩ := lv_some h
    refine v_iincN F dX11_digest_395 (Nat.le_of_ble_eq_true rfl) rfl ex16 (L' := [mA 1545, mI x16, mU, mU, mI v4, mI v5, mI v6]) rfl ?_
    refine v_goto F dX11_digest_398 rfl ?_
    cases h
    refine v_fgt (L' := [mA 1545, mI x16, mU, mU, mU, mU, mU]) ⟨Or.inl rfl, Or.inl rfl, Or.inl rfl, Or.inl rfl, Or.inr rfl, Or.inr rfl, Or.inr rfl, trivial⟩ ?_
    exact K
  · rw [if_neg hq13] at h
    refine v_aload_n F dX11_digest_351 rfl rfl ?_
    refine gf_X11_1153 F dX11_digest_352 hp (v := 1663) rfl ?_
    refine v_iload F dX11_digest_355 rfl ?_
    refine v_aload_n F dX11_digest_357 rfl rfl ?_
    refine gf_X11_1153 F dX11_digest_358 hp (v := 1663) rfl ?_
    refine v_iload F dX11_digest_361 rfl ?_
    refine v_iconst F dX11_digest_363 ⟨by decide, by decide⟩ ?_
    refine v_isub F dX11_digest_364 ?_
    obtain ⟨x17, ex17, h⟩ := lv_some h
    refine v_nI ex17 ?_
    obtain ⟨hi18, h⟩ := ck_some h
    refine v_iald F dX11_digest_365 (ar_X11_169 hX hp) hi18 ?_
    obtain ⟨hi19, h⟩ := ck_some h
    obtain ⟨d20, ed20, h⟩ := sd_some h
    refine v_iast F dX11_digest_366 (ar_X11_169 hX hp) hi19 ?_
    refine v_nD ed20 ?_
    obtain ⟨x21, ex21, h⟩ := lv_some h
    refine v_iincN F dX11_digest_367 (Nat.le_of_ble_eq_true rfl) rfl ex21 (L' := [mA 1545, mI v1, mU, mU, mI v4, mI v5, mI x21]) rfl ?_
    refine v_goto F dX11_digest_370 rfl ?_
    cases h
    exact K
theorem fX11_digest_346_ok {w : Wd} {l : Launch} {G : Cx} {d m dd : Dt} {v1 v4 v5 v6 : Int} {d' : Dt} {x : ((Dt × Int) ⊕ Dt)} (F : Fx w G cX11_digest RX11 7 none { frames := 1, cells := 0, slots := 0, locals := 21 }) (hX : WF dd m) (hp : PB m 1545 11) (h : fX11_digest_346 d v1 v4 v5 v6 = some x) (K : (Sum.elim (fX11_digest_204P w l G (QM w G WF none d' m 0 0) m) (fun q => q = d')) x) : V w l WF G (QM w G WF none d' m 0 0) d m 0 0 346 [mA 1545, mI v1, mU, mU, mI v4, mI v5, mI v6] [] := by
  unfold fX11_digest_346 at h
  exact loop_ok (P := fX11_digest_346P w l G (QM w G WF none d' m 0 0) m v1 v4 v5) (fun s x hx h1 h2 => fX11_digest_346f_ok F hX hp hx (by
    cases x with
    | inl s' => exact h1 s' rfl
    | inr z => cases h2 z rfl; exact K)) h
theorem fX11_digest_204f_ok {w : Wd} {l : Launch} {G : Cx} {m dd : Dt} {d' : Dt} {s : Dt × Int} {x : ((Dt × Int) ⊕ Dt)} (F : Fx w G cX11_digest RX11 7 none { frames := 1, cells := 0, slots := 0, locals := 21 }) (hX : WF dd m) (hp : PB m 1545 11) (h : fX11_digest_204f s = some x) (K : (Sum.elim (fX11_digest_204P w l G (QM w G WF none d' m 0 0) m) (fun q => q = d')) x) : V w l WF G (QM w G WF none d' m 0 0) s.1 m 0 0 204 [mA 1545, mI (s.2), mU, mU, mU, mU, mU] [] := by
  obtain ⟨d, v1⟩ := s
  unfold fX11_digest_204f at h
  dsimp only at h
  refine v_iload_n F dX11_digest_204 rfl rfl ?_
  refine v_bipush F dX11_digest_205 rfl ⟨by decide, by decide⟩ ?_
  refine v_icmp_ge F dX11_digest_207 rfl (fun hq3 => ?_) (fun hq3 => ?_)
  · rw [if_pos hq3] at h
    obtain ⟨z, hu, ez⟩ := up_some h
    clear h
    subst ez
    have h := hu
    clear hu
    refine v_iconst F dX11_digest_401 ⟨by decide, by decide⟩ ?_
    refine v_istore_n F dX11_digest_402 rfl (Nat.le_of_ble_eq_true rfl) (L' := [mA 1545, mI 0, mU, mU, mU, mU, mU]) rfl ?_
    exact fX11_digest_403_ok F hX hp h K
  · rw [if_neg hq3] at h
    refine v_aload_n F dX11_digest_210 rfl rfl ?_
    refine gf_X11_1153 F dX11_digest_211 hp (v := 1663) rfl ?_
    refine v_iconst F dX11_digest_214 ⟨by decide, by decide⟩ ?_
    refine v_iald F dX11_digest_215 (ar_X11_169 hX hp) ⟨by decide, by decide⟩ ?_
    obtain ⟨x8, ex8, h⟩ := lv_some h
    refine v_nI ex8 ?_
    refine v_istore_n F dX11_digest_216 rfl (Nat.le_of_ble_eq_true rfl) (L' := [mA 1545, mI v1, mI x8, mU, mU, mU, mU]) rfl ?_
    refine v_aload_n F dX11_digest_217 rfl rfl ?_
    refine gf_X11_1153 F dX11_digest_218 hp (v := 1663) rfl ?_
    refine v_iconst F dX11_digest_221 ⟨by decide, by decide⟩ ?_
    refine v_iald F dX11_digest_222 (ar_X11_169 hX hp) ⟨by decide, by decide⟩ ?_
    obtain ⟨x9, ex9, h⟩ := lv_some h
    refine v_nI ex9 ?_
    refine v_istore_n F dX11_digest_223 rfl (Nat.le_of_ble_eq_true rfl) (L' := [mA 1545, mI v1, mI x8, mI x9, mU, mU, mU]) rfl ?_
    refine v_aload_n F dX11_digest_224 rfl rfl ?_
    refine gf_X11_1153 F dX11_digest_225 hp (v := 1663) rfl ?_
    refine v_bipush F dX11_digest_228 rfl ⟨by decide, by decide⟩ ?_
    refine v_iald F dX11_digest_230 (ar_X11_169 hX hp) ⟨by decide, by decide⟩ ?_
    refine v_iload_n F dX11_digest_231 rfl rfl ?_
    refine v_bipush F dX11_digest_232 rfl ⟨by decide, by decide⟩ ?_
    refine v_callSv F dX11_digest_234 cs_X11_1275 rfl (vm_X11_turn) rfl (rOk.of rfl) ?_
    refine v_iload_n F dX11_digest_237 rfl rfl ?_
    refine v_bipush F dX11_digest_238 rfl ⟨by decide, by decide⟩ ?_
    refine v_callSv F dX11_digest_240 cs_X11_1275 rfl (vm_X11_turn) rfl (rOk.of rfl) ?_
    refine v_ixor F dX11_digest_243 ?_
    refine v_iload_n F dX11_digest_244 rfl rfl ?_
    refine v_bipush F dX11_digest_245 rfl ⟨by decide, by decide⟩ ?_
    refine v_callSv F dX11_digest_247 cs_X11_1275 rfl (vm_X11_turn) rfl (rOk.of rfl) ?_
    refine v_ixor F dX11_digest_250 ?_
    refine v_iadd F dX11_digest_251 ?_
    refine v_iload_n F dX11_digest_252 rfl rfl ?_
    refine v_aload_n F dX11_digest_253 rfl rfl ?_
    refine gf_X11_1153 F dX11_digest_254 hp (v := 1663) rfl ?_
    refine v_iconst F dX11_digest_257 ⟨by decide, by decide⟩ ?_
    refine v_iald F dX11_digest_258 (ar_X11_169 hX hp) ⟨by decide, by decide⟩ ?_
    refine v_iand F dX11_digest_259 ?_
    refine v_iload_n F dX11_digest_260 rfl rfl ?_
    refine v_iconst F dX11_digest_261 ⟨by decide, by decide⟩ ?_
    refine v_ixor F dX11_digest_262 ?_
    refine v_aload_n F dX11_digest_263 rfl rfl ?_
    refine gf_X11_1153 F dX11_digest_264 hp (v := 1663) rfl ?_
    refine v_bipush F dX11_digest_267 rfl ⟨by decide, by decide⟩ ?_
    refine v_iald F dX11_digest_269 (ar_X11_169 hX hp) ⟨by decide, by decide⟩ ?_
    refine v_iand F dX11_digest_270 ?_
    refine v_ixor F dX11_digest_271 ?_
    refine v_iadd F dX11_digest_272 ?_
    refine v_aload_n F dX11_digest_273 rfl rfl ?_
    refine gf_X11_1220 F dX11_digest_274 hp (v := 1664) rfl ?_
    refine v_iload_n F dX11_digest_277 rfl rfl ?_
    obtain ⟨hi10, h⟩ := ck_some h
    refine v_iald F dX11_digest_278 (ar_X11_170 hX hp) hi10 ?_
    refine v_iadd F dX11_digest_279 ?_
    refine v_aload_n F dX11_digest_280 rfl rfl ?_
    refine gf_X11_1147 F dX11_digest_281 hp (v := 1661) rfl ?_
    refine v_iload_n F dX11_digest_284 rfl rfl ?_
    refine v_iald F dX11_digest_285 (ar_X11_167 hX hp) hi10 ?_
    refine v_iadd F dX11_digest_286 ?_
    obtain ⟨x11, ex11, h⟩ := lv_some h
    refine v_nI ex11 ?_
    refine v_istore F dX11_digest_287 (Nat.le_of_ble_eq_true rfl) (L' := [mA 1545, mI v1, mI x8, mI x9, mI x11, mU, mU]) rfl ?_
    refine v_iload_n F dX11_digest_289 rfl rfl ?_
    refine v_iconst F dX11_digest_290 ⟨by decide, by decide⟩ ?_
    refine v_callSv F dX11_digest_291 cs_X11_1275 rfl (vm_X11_turn) rfl (rOk.of rfl) ?_
    refine v_iload_n F dX11_digest_294 rfl rfl ?_
    refine v_bipush F dX11_digest_295 rfl ⟨by decide, by decide⟩ ?_
    refine v_callSv F dX11_digest_297 cs_X11_1275 rfl (vm_X11_turn) rfl (rOk.of rfl) ?_
    refine v_ixor F dX11_digest_300 ?_
    refine v_iload_n F dX11_digest_301 rfl rfl ?_
    refine v_bipush F dX11_digest_302 rfl ⟨by decide, by decide⟩ ?_
    refine v_callSv F dX11_digest_304 cs_X11_1275 rfl (vm_X11_turn) rfl (rOk.of rfl) ?_
    refine v_ixor F dX11_digest_307 ?_
    refine v_iload_n F dX11_digest_308 rfl rfl ?_
    refine v_aload_n F dX11_digest_309 rfl rfl ?_
    refine gf_X11_1153 F dX11_digest_310 hp (v := 1663) rfl ?_
    refine v_iconst F dX11_digest_313 ⟨by decide, by decide⟩ ?_
    refine v_iald F dX11_digest_314 (ar_X11_169 hX hp) ⟨by decide, by decide⟩ ?_
    refine v_iand F dX11_digest_315 ?_
    refine v_iload_n F dX11_digest_316 rfl rfl ?_
    refine v_aload_n F dX11_digest_317 rfl rfl ?_
    refine gf_X11_1153 F dX11_digest_318 hp (v := 1663) rfl ?_
    refine v_iconst F dX11_digest_321 ⟨by decide, by decide⟩ ?_
    refine v_iald F dX11_digest_322 (ar_X11_169 hX hp) ⟨by decide, by decide⟩ ?_
    refine v_iand F dX11_digest_323 ?_
    refine v_ixor F dX11_digest_324 ?_
    refine v_aload_n F dX11_digest_325 rfl rfl ?_
    refine gf_X11_1153 F dX11_digest_326 hp (v := 1663) rfl ?_
    refine v_iconst F dX11_digest_329 ⟨by decide, by decide⟩ ?_
    refine v_iald F dX11_digest_330 (ar_X11_169 hX hp) ⟨by decide, by decide⟩ ?_
    refine v_aload_n F dX11_digest_331 rfl rfl ?_
    refine gf_X11_1153 F dX11_digest_332 hp (v := 1663) rfl ?_
    refine v_iconst F dX11_digest_335 ⟨by decide, by decide⟩ ?_
    refine v_iald F dX11_digest_336 (ar_X11_169 hX hp) ⟨by decide, by decide⟩ ?_
    refine v_iand F dX11_digest_337 ?_
    refine v_ixor F dX11_digest_338 ?_
    refine v_iadd F dX11_digest_339 ?_
    obtain ⟨x12, ex12, h⟩ := lv_some h
    refine v_nI ex12 ?_
    refine v_istore F dX11_digest_340 (Nat.le_of_ble_eq_true rfl) (L' := [mA 1545, mI v1, mI x8, mI x9, mI x11, mI x12, mU]) rfl ?_
    refine v_bipush F dX11_digest_342 rfl ⟨by decide, by decide⟩ ?_
    refine v_istore F dX11_digest_344 (Nat.le_of_ble_eq_true rfl) (L' := [mA 1545, mI v1, mI x8, mI x9, mI x11, mI x12, mI 7]) rfl ?_
    refine v_fgt (L' := [mA 1545, mI v1, mU, mU, mI x11, mI x12, mI 7]) ⟨Or.inl rfl, Or.inl rfl, Or.inr rfl, Or.inr rfl, Or.inl rfl, Or.inl rfl, Or.inl rfl, trivial⟩ ?_
    exact fX11_digest_346_ok F hX hp h K
theorem fX11_digest_204_ok {w : Wd} {l : Launch} {G : Cx} {d m dd : Dt} {v1 : Int} {d' : Dt} {x : Dt} (F : Fx w G cX11_digest RX11 7 none { frames := 1, cells := 0, slots := 0, locals := 21 }) (hX : WF dd m) (hp : PB m 1545 11) (h : fX11_digest_204 d v1 = some x) (K : (fun q => q = d') x) : V w l WF G (QM w G WF none d' m 0 0) d m 0 0 204 [mA 1545, mI v1, mU, mU, mU, mU, mU] [] := by
  unfold fX11_digest_204 at h
  exact loop_ok (P := fX11_digest_204P w l G (QM w G WF none d' m 0 0) m) (fun s x hx h1 h2 => fX11_digest_204f_ok F hX hp hx (by
    cases x with
    | inl s' => exact h1 s' rfl
    | inr z => cases h2 z rfl; exact K)) h
theorem fX11_digest_178f_ok {w : Wd} {l : Launch} {G : Cx} {m dd : Dt} {d' : Dt} {s : Dt × Int} {x : ((Dt × Int) ⊕ Dt)} (F : Fx w G cX11_digest RX11 7 none { frames := 1, cells := 0, slots := 0, locals := 21 }) (hX : WF dd m) (hp : PB m 1545 11) (h : fX11_digest_178f s = some x) (K : (Sum.elim (fX11_digest_178P w l G (QM w G WF none d' m 0 0) m) (fun q => q = d')) x) : V w l WF G (QM w G WF none d' m 0 0) s.1 m 0 0 178 [mA 1545, mI (s.2), mU, mU, mU, mU, mU] [] := by
  obtain ⟨d, v1⟩ := s
  unfold fX11_digest_178f at h
  dsimp only at h
  refine v_iload_n F dX11_digest_178 rfl rfl ?_
  refine v_bipush F dX11_digest_179 rfl ⟨by decide, by decide⟩ ?_
  refine v_icmp_ge F dX11_digest_181 rfl (fun hq2 => ?_) (fun hq2 => ?_)
  · rw [if_pos hq2] at h
    obtain ⟨z, hu, ez⟩ := up_some h
    clear h
    subst ez
    have h := hu
    clear hu
    refine v_iconst F dX11_digest_202 ⟨by decide, by decide⟩ ?_
    refine v_istore_n F dX11_digest_203 rfl (Nat.le_of_ble_eq_true rfl) (L' := [mA 1545, mI 0, mU, mU, mU, mU, mU]) rfl ?_
    exact fX11_digest_204_ok F hX hp h K
  · rw [if_neg hq2] at h
    refine v_aload_n F dX11_digest_184 rfl rfl ?_
    refine gf_X11_1153 F dX11_digest_185 hp (v := 1663) rfl ?_
    refine v_iload_n F dX11_digest_188 rfl rfl ?_
    refine v_aload_n F dX11_digest_189 rfl rfl ?_
    refine gf_X11_1231 F dX11_digest_190 hp (v := 1665) rfl ?_
    refine v_iload_n F dX11_digest_193 rfl rfl ?_
    obtain ⟨hi22, h⟩ := ck_some h
    refine v_iald F dX11_digest_194 (ar_X11_171 hX hp) hi22 ?_
    obtain ⟨d23, ed23, h⟩ := sd_some h
    refine v_iast F dX11_digest_195 (ar_X11_169 hX hp) hi22 ?_
    refine v_nD ed23 ?_
    obtain ⟨x24, ex24, h⟩ := lv_some h
    refine v_iincN F dX11_digest_196 (Nat.le_of_ble_eq_true rfl) rfl ex24 (L' := [mA 1545, mI x24, mU, mU, mU, mU, mU]) rfl ?_
    refine v_goto F dX11_digest_199 rfl ?_
    cases h
    exact K
theorem fX11_digest_178_ok {w : Wd} {l : Launch} {G : Cx} {d m dd : Dt} {v1 : Int} {d' : Dt} {x : Dt} (F : Fx w G cX11_digest RX11 7 none { frames := 1, cells := 0, slots := 0, locals := 21 }) (hX : WF dd m) (hp : PB m 1545 11) (h : fX11_digest_178 d v1 = some x) (K : (fun q => q = d') x) : V w l WF G (QM w G WF none d' m 0 0) d m 0 0 178 [mA 1545, mI v1, mU, mU, mU, mU, mU] [] := by
  unfold fX11_digest_178 at h
  exact loop_ok (P := fX11_digest_178P w l G (QM w G WF none d' m 0 0) m) (fun s x hx h1 h2 => fX11_digest_178f_ok F hX hp hx (by
    cases x with
    | inl s' => exact h1 s' rfl
    | inr z => cases h2 z rfl; exact K)) h
theorem fX11_digest_2f_ok {w : Wd} {l : Launch} {G : Cx} {m dd : Dt} {d' : Dt} {s : Dt × Int} {x : ((Dt × Int) ⊕ Dt)} (F : Fx w G cX11_digest RX11 7 none { frames := 1, cells := 0, slots := 0, locals := 21 }) (hX : WF dd m) (hp : PB m 1545 11) (h : fX11_digest_2f s = some x) (K : (Sum.elim (fX11_digest_2P w l G (QM w G WF none d' m 0 0) m) (fun q => q = d')) x) : V w l WF G (QM w G WF none d' m 0 0) s.1 m 0 0 2 [mA 1545, mI (s.2), mU, mU, mU, mU, mU] [] := by
  obtain ⟨d, v1⟩ := s
  unfold fX11_digest_2f at h
  dsimp only at h
  refine v_iload_n F dX11_digest_2 rfl rfl ?_
  refine v_bipush F dX11_digest_3 rfl ⟨by decide, by decide⟩ ?_
  refine v_icmp_ge F dX11_digest_5 rfl (fun hq1 => ?_) (fun hq1 => ?_)
  · rw [if_pos hq1] at h
    obtain ⟨z, hu, ez⟩ := up_some h
    clear h
    subst ez
    have h := hu
    clear hu
    refine v_iconst F dX11_digest_176 ⟨by decide, by decide⟩ ?_
    refine v_istore_n F dX11_digest_177 rfl (Nat.le_of_ble_eq_true rfl) (L' := [mA 1545, mI 0, mU, mU, mU, mU, mU]) rfl ?_
    exact fX11_digest_178_ok F hX hp h K
  · rw [if_neg hq1] at h
    refine v_iload_n F dX11_digest_8 rfl rfl ?_
    refine v_bipush F dX11_digest_9 rfl ⟨by decide, by decide⟩ ?_
    refine v_icmp_ge F dX11_digest_11 rfl (fun hq25 => ?_) (fun hq25 => ?_)
    · rw [if_pos hq25] at h
      refine v_aload_n F dX11_digest_89 rfl rfl ?_
      refine gf_X11_1147 F dX11_digest_90 hp (v := 1661) rfl ?_
      refine v_iload_n F dX11_digest_93 rfl rfl ?_
      refine v_bipush F dX11_digest_94 rfl ⟨by decide, by decide⟩ ?_
      refine v_isub F dX11_digest_96 ?_
      obtain ⟨x26, ex26, h⟩ := lv_some h
      refine v_nI ex26 ?_
      obtain ⟨hi27, h⟩ := ck_some h
      refine v_iald F dX11_digest_97 (ar_X11_167 hX hp) hi27 ?_
      obtain ⟨x28, ex28, h⟩ := lv_some h
      refine v_nI ex28 ?_
      refine v_istore_n F dX11_digest_98 rfl (Nat.le_of_ble_eq_true rfl) (L' := [mA 1545, mI v1, mI x28, mU, mU, mU, mU]) rfl ?_
      refine v_aload_n F dX11_digest_99 rfl rfl ?_
      refine gf_X11_1147 F dX11_digest_100 hp (v := 1661) rfl ?_
      refine v_iload_n F dX11_digest_103 rfl rfl ?_
      refine v_iconst F dX11_digest_104 ⟨by decide, by decide⟩ ?_
      refine v_isub F dX11_digest_105 ?_
      obtain ⟨x29, ex29, h⟩ := lv_some h
      refine v_nI ex29 ?_
      obtain ⟨hi30, h⟩ := ck_some h
      refine v_iald F dX11_digest_106 (ar_X11_167 hX hp) hi30 ?_
      obtain ⟨x31, ex31, h⟩ := lv_some h
      refine v_nI ex31 ?_
      refine v_istore_n F dX11_digest_107 rfl (Nat.le_of_ble_eq_true rfl) (L' := [mA 1545, mI v1, mI x28, mI x31, mU, mU, mU]) rfl ?_
      refine v_aload_n F dX11_digest_108 rfl rfl ?_
      refine gf_X11_1147 F dX11_digest_109 hp (v := 1661) rfl ?_
      refine v_iload_n F dX11_digest_112 rfl rfl ?_
      refine v_aload_n F dX11_digest_113 rfl rfl ?_
      refine gf_X11_1147 F dX11_digest_114 hp (v := 1661) rfl ?_
      refine v_iload_n F dX11_digest_117 rfl rfl ?_
      refine v_bipush F dX11_digest_118 rfl ⟨by decide, by decide⟩ ?_
      refine v_isub F dX11_digest_120 ?_
      obtain ⟨x32, ex32, h⟩ := lv_some h
      refine v_nI ex32 ?_
      obtain ⟨hi33, h⟩ := ck_some h
      refine v_iald F dX11_digest_121 (ar_X11_167 hX hp) hi33 ?_
      refine v_iload_n F dX11_digest_122 rfl rfl ?_
      refine v_bipush F dX11_digest_123 rfl ⟨by decide, by decide⟩ ?_
      refine v_callSv F dX11_digest_125 cs_X11_1275 rfl (vm_X11_turn) rfl (rOk.of rfl) ?_
      refine v_iload_n F dX11_digest_128 rfl rfl ?_
      refine v_bipush F dX11_digest_129 rfl ⟨by decide, by decide⟩ ?_
      refine v_callSv F dX11_digest_131 cs_X11_1275 rfl (vm_X11_turn) rfl (rOk.of rfl) ?_
      refine v_ixor F dX11_digest_134 ?_
      refine v_iload_n F dX11_digest_135 rfl rfl ?_
      refine v_iconst F dX11_digest_136 ⟨by decide, by decide⟩ ?_
      refine v_iushr F dX11_digest_137 ?_
      refine v_ixor F dX11_digest_138 ?_
      refine v_iadd F dX11_digest_139 ?_
      refine v_aload_n F dX11_digest_140 rfl rfl ?_
      refine gf_X11_1147 F dX11_digest_141 hp (v := 1661) rfl ?_
      refine v_iload_n F dX11_digest_144 rfl rfl ?_
      refine v_bipush F dX11_digest_145 rfl ⟨by decide, by decide⟩ ?_
      refine v_isub F dX11_digest_147 ?_
      obtain ⟨x34, ex34, h⟩ := lv_some h
      refine v_nI ex34 ?_
      obtain ⟨hi35, h⟩ := ck_some h
      refine v_iald F dX11_digest_148 (ar_X11_167 hX hp) hi35 ?_
      refine v_iadd F dX11_digest_149 ?_
      refine v_iload_n F dX11_digest_150 rfl rfl ?_
      refine v_bipush F dX11_digest_151 rfl ⟨by decide, by decide⟩ ?_
      refine v_callSv F dX11_digest_153 cs_X11_1275 rfl (vm_X11_turn) rfl (rOk.of rfl) ?_
      refine v_iload_n F dX11_digest_156 rfl rfl ?_
      refine v_bipush F dX11_digest_157 rfl ⟨by decide, by decide⟩ ?_
      refine v_callSv F dX11_digest_159 cs_X11_1275 rfl (vm_X11_turn) rfl (rOk.of rfl) ?_
      refine v_ixor F dX11_digest_162 ?_
      refine v_iload_n F dX11_digest_163 rfl rfl ?_
      refine v_bipush F dX11_digest_164 rfl ⟨by decide, by decide⟩ ?_
      refine v_iushr F dX11_digest_166 ?_
      refine v_ixor F dX11_digest_167 ?_
      refine v_iadd F dX11_digest_168 ?_
      obtain ⟨hi36, h⟩ := ck_some h
      obtain ⟨d37, ed37, h⟩ := sd_some h
      refine v_iast F dX11_digest_169 (ar_X11_167 hX hp) hi36 ?_
      refine v_nD ed37 ?_
      obtain ⟨x38, ex38, h⟩ := lv_some h
      refine v_iincN F dX11_digest_170 (Nat.le_of_ble_eq_true rfl) rfl ex38 (L' := [mA 1545, mI x38, mI x28, mI x31, mU, mU, mU]) rfl ?_
      refine v_goto F dX11_digest_173 rfl ?_
      cases h
      refine v_fgt (L' := [mA 1545, mI x38, mU, mU, mU, mU, mU]) ⟨Or.inl rfl, Or.inl rfl, Or.inr rfl, Or.inr rfl, Or.inl rfl, Or.inl rfl, Or.inl rfl, trivial⟩ ?_
      exact K
    · rw [if_neg hq25] at h
      refine v_aload_n F dX11_digest_14 rfl rfl ?_
      refine gf_X11_1147 F dX11_digest_15 hp (v := 1661) rfl ?_
      refine v_iload_n F dX11_digest_18 rfl rfl ?_
      refine v_aload_n F dX11_digest_19 rfl rfl ?_
      refine gf_X11_1144 F dX11_digest_20 hp (v := 1660) rfl ?_
      refine v_iconst F dX11_digest_23 ⟨by decide, by decide⟩ ?_
      refine v_iload_n F dX11_digest_24 rfl rfl ?_
      refine v_imul F dX11_digest_25 ?_
      obtain ⟨x39, ex39, h⟩ := lv_some h
      refine v_nI ex39 ?_
      obtain ⟨hi40, h⟩ := ck_some h
      refine v_bald F dX11_digest_26 (ar_X11_166 hX hp) hi40 ?_
      refine v_sipush F dX11_digest_27 rfl ⟨by decide, by decide⟩ ?_
      refine v_iand F dX11_digest_30 ?_
      refine v_bipush F dX11_digest_31 rfl ⟨by decide, by decide⟩ ?_
      refine v_ishl F dX11_digest_33 ?_
      refine v_aload_n F dX11_digest_34 rfl rfl ?_
      refine gf_X11_1144 F dX11_digest_35 hp (v := 1660) rfl ?_
      refine v_iconst F dX11_digest_38 ⟨by decide, by decide⟩ ?_
      refine v_iload_n F dX11_digest_39 rfl rfl ?_
      refine v_imul F dX11_digest_40 ?_
      refine v_iconst F dX11_digest_41 ⟨by decide, by decide⟩ ?_
      refine v_iadd F dX11_digest_42 ?_
      obtain ⟨x41, ex41, h⟩ := lv_some h
      refine v_nI ex41 ?_
      obtain ⟨hi42, h⟩ := ck_some h
      refine v_bald F dX11_digest_43 (ar_X11_166 hX hp) hi42 ?_
      refine v_sipush F dX11_digest_44 rfl ⟨by decide, by decide⟩ ?_
      refine v_iand F dX11_digest_47 ?_
      refine v_bipush F dX11_digest_48 rfl ⟨by decide, by decide⟩ ?_
      refine v_ishl F dX11_digest_50 ?_
      refine v_ior F dX11_digest_51 ?_
      refine v_aload_n F dX11_digest_52 rfl rfl ?_
      refine gf_X11_1144 F dX11_digest_53 hp (v := 1660) rfl ?_
      refine v_iconst F dX11_digest_56 ⟨by decide, by decide⟩ ?_
      refine v_iload_n F dX11_digest_57 rfl rfl ?_
      refine v_imul F dX11_digest_58 ?_
      refine v_iconst F dX11_digest_59 ⟨by decide, by decide⟩ ?_
      refine v_iadd F dX11_digest_60 ?_
      obtain ⟨x43, ex43, h⟩ := lv_some h
      refine v_nI ex43 ?_
      obtain ⟨hi44, h⟩ := ck_some h
      refine v_bald F dX11_digest_61 (ar_X11_166 hX hp) hi44 ?_
      refine v_sipush F dX11_digest_62 rfl ⟨by decide, by decide⟩ ?_
      refine v_iand F dX11_digest_65 ?_
      refine v_bipush F dX11_digest_66 rfl ⟨by decide, by decide⟩ ?_
      refine v_ishl F dX11_digest_68 ?_
      refine v_ior F dX11_digest_69 ?_
      refine v_aload_n F dX11_digest_70 rfl rfl ?_
      refine gf_X11_1144 F dX11_digest_71 hp (v := 1660) rfl ?_
      refine v_iconst F dX11_digest_74 ⟨by decide, by decide⟩ ?_
      refine v_iload_n F dX11_digest_75 rfl rfl ?_
      refine v_imul F dX11_digest_76 ?_
      refine v_iconst F dX11_digest_77 ⟨by decide, by decide⟩ ?_
      refine v_iadd F dX11_digest_78 ?_
      obtain ⟨x45, ex45, h⟩ := lv_some h
      refine v_nI ex45 ?_
      obtain ⟨hi46, h⟩ := ck_some h
      refine v_bald F dX11_digest_79 (ar_X11_166 hX hp) hi46 ?_
      refine v_sipush F dX11_digest_80 rfl ⟨by decide, by decide⟩ ?_
      refine v_iand F dX11_digest_83 ?_
      refine v_ior F dX11_digest_84 ?_
      obtain ⟨hi47, h⟩ := ck_some h
      obtain ⟨d48, ed48, h⟩ := sd_some h
      refine v_iast F dX11_digest_85 (ar_X11_167 hX hp) hi47 ?_
      refine v_nD ed48 ?_
      refine v_goto F dX11_digest_86 rfl ?_
      obtain ⟨x49, ex49, h⟩ := lv_some h
      refine v_iincN F dX11_digest_170 (Nat.le_of_ble_eq_true rfl) rfl ex49 (L' := [mA 1545, mI x49, mU, mU, mU, mU, mU]) rfl ?_
      refine v_goto F dX11_digest_173 rfl ?_
      cases h
      exact K
theorem fX11_digest_2_ok {w : Wd} {l : Launch} {G : Cx} {d m dd : Dt} {v1 : Int} {d' : Dt} {x : Dt} (F : Fx w G cX11_digest RX11 7 none { frames := 1, cells := 0, slots := 0, locals := 21 }) (hX : WF dd m) (hp : PB m 1545 11) (h : fX11_digest_2 d v1 = some x) (K : (fun q => q = d') x) : V w l WF G (QM w G WF none d' m 0 0) d m 0 0 2 [mA 1545, mI v1, mU, mU, mU, mU, mU] [] := by
  unfold fX11_digest_2 at h
  exact loop_ok (P := fX11_digest_2P w l G (QM w G WF none d' m 0 0) m) (fun s x hx h1 h2 => fX11_digest_2f_ok F hX hp hx (by
    cases x with
    | inl s' => exact h1 s' rfl
    | inr z => cases h2 z rfl; exact K)) h
theorem vm_X11_digest {w : Wd} {l : Launch} {d m : Dt} {d' : Dt} (hp : PB m 1545 11) (h : fX11_digest d = some d') : VM w l WF yX11_digest cX11_digest 7 none 1 21 0 0 d m [mA 1545] none d' m := by
  obtain ⟨x, h, K⟩ : ∃ x, fX11_digest d = some x ∧ x = d' := ⟨_, h, rfl⟩
  refine VM.of (L := [mA 1545, mU, mU, mU, mU, mU, mU]) (by decide +kernel) rfl (Nat.le_of_ble_eq_true rfl) fun G F _ => v_fact fun _ hX _ _ => ?_
  unfold fX11_digest at h
  refine v_iconst F dX11_digest_0 ⟨by decide, by decide⟩ ?_
  refine v_istore_n F dX11_digest_1 rfl (Nat.le_of_ble_eq_true rfl) (L' := [mA 1545, mI 0, mU, mU, mU, mU, mU]) rfl ?_
  exact fX11_digest_2_ok F hX hp h K
def fX11_write_3P (w : Wd) (l : Launch) (G : Cx) (Q : State → Prop) (m : Dt) (a1 a2 a3 a4 a5 : Int) (s : Dt × Int) : Prop := V w l WF G Q s.1 m 0 0 3 [mA 1545, mI a1, mI a2, mI a3, mI a4, mI a5, mI (s.2)] []
def fX11_write_127P (w : Wd) (l : Launch) (G : Cx) (Q : State → Prop) (m : Dt) (a1 a2 a3 a4 a5 : Int) (s : Dt × Int) : Prop := V w l WF G Q s.1 m 0 0 127 [mA 1545, mU, mU, mU, mU, mU, mI (s.2)] []
theorem fX11_write_127f_ok {w : Wd} {l : Launch} {G : Cx} {m dd : Dt} {a1 a2 a3 a4 a5 : Int} {d' : Dt} {s : Dt × Int} {x : ((Dt × Int) ⊕ Dt)} (F : Fx w G cX11_write RX11 7 none { frames := 2, cells := 0, slots := 0, locals := 47 }) (hX : WF dd m) (hp : PB m 1545 11) (h : fX11_write_127f a1 a2 a3 a4 a5 s = some x) (K : (Sum.elim (fX11_write_127P w l G (QM w G WF none d' m 0 0) m a1 a2 a3 a4 a5) (fun q => q = d')) x) : V w l WF G (QM w G WF none d' m 0 0) s.1 m 0 0 127 [mA 1545, mU, mU, mU, mU, mU, mI (s.2)] [] := by
  obtain ⟨d, v6⟩ := s
  unfold fX11_write_127f at h
  dsimp only at h
  refine v_iload F dX11_write_127 rfl ?_
  refine v_bipush F dX11_write_129 rfl ⟨by decide, by decide⟩ ?_
  refine v_icmp_ge F dX11_write_131 rfl (fun hq17 => ?_) (fun hq17 => ?_)
  · rw [if_pos hq17] at h
    obtain ⟨z, hu, ez⟩ := up_some h
    clear h
    subst ez
    have h := hu
    clear hu
    refine v_aload_n F dX11_write_159 rfl rfl ?_
    refine v_dup_A F dX11_write_160 ?_
    refine gf_X11_1272 F dX11_write_161 hp ?_
    refine v_iconst F dX11_write_164 ⟨by decide, by decide⟩ ?_
    refine v_iadd F dX11_write_165 ?_
    obtain ⟨d18, ed18, h⟩ := sd_some h
    refine pf_X11_1272 F dX11_write_166 hp ?_
    refine v_nD ed18 ?_
    cases h
    cases (show _ = d' from K)
    exact v_vret F dX11_write_169
  · rw [if_neg hq17] at h
    refine v_aload_n F dX11_write_134 rfl rfl ?_
    refine v_aload_n F dX11_write_135 rfl rfl ?_
    refine gf_X11_1141 F dX11_write_136 hp (v := 1659) rfl ?_
    refine v_iconst F dX11_write_139 ⟨by decide, by decide⟩ ?_
    refine v_iload F dX11_write_140 rfl ?_
    refine v_imul F dX11_write_142 ?_
    refine v_aload_n F dX11_write_143 rfl rfl ?_
    refine gf_X11_1150 F dX11_write_144 hp (v := 1662) rfl ?_
    refine v_iload F dX11_write_147 rfl ?_
    obtain ⟨hi19, h⟩ := ck_some h
    refine v_iald F dX11_write_149 (ar_X11_168 hX hp) hi19 ?_
    obtain ⟨d20, hc21, h⟩ := bd_some h
    refine v_callV0 (c := 11) F dX11_write_150 cv_X11_1265 rfl (PB.ob hp hX (Nat.le_of_ble_eq_true rfl)) (Nat.le_of_ble_eq_true rfl) rfl (vm_X11_lay4 hp (ar_X11_164 hX hp) hc21) rfl (rOk.of rfl) ?_
    obtain ⟨x22, ex22, h⟩ := lv_some h
    refine v_iincN F dX11_write_153 (Nat.le_of_ble_eq_true rfl) rfl ex22 (L' := [mA 1545, mU, mU, mU, mU, mU, mI x22]) rfl ?_
    refine v_goto F dX11_write_156 rfl ?_
    cases h
    exact K
theorem fX11_write_127_ok {w : Wd} {l : Launch} {G : Cx} {d m dd : Dt} {a1 a2 a3 a4 a5 v6 : Int} {d' : Dt} {x : Dt} (F : Fx w G cX11_write RX11 7 none { frames := 2, cells := 0, slots := 0, locals := 47 }) (hX : WF dd m) (hp : PB m 1545 11) (h : fX11_write_127 d a1 a2 a3 a4 a5 v6 = some x) (K : (fun q => q = d') x) : V w l WF G (QM w G WF none d' m 0 0) d m 0 0 127 [mA 1545, mU, mU, mU, mU, mU, mI v6] [] := by
  unfold fX11_write_127 at h
  exact loop_ok (P := fX11_write_127P w l G (QM w G WF none d' m 0 0) m a1 a2 a3 a4 a5) (fun s x hx h1 h2 => fX11_write_127f_ok F hX hp hx (by
    cases x with
    | inl s' => exact h1 s' rfl
    | inr z => cases h2 z rfl; exact K)) h
theorem fX11_write_34_ok {w : Wd} {l : Launch} {G : Cx} {d m dd : Dt} {a1 a2 a3 a4 a5 v6 s1 s2 : Int} {d' : Dt} {x : ((Dt × Int) ⊕ Dt)} (F : Fx w G cX11_write RX11 7 none { frames := 2, cells := 0, slots := 0, locals := 47 }) (hX : WF dd m) (hp : PB m 1545 11) (h : fX11_write_34 d a1 a2 a3 a4 a5 v6 s1 s2 = some x) (K : (Sum.elim (fX11_write_3P w l G (QM w G WF none d' m 0 0) m a1 a2 a3 a4 a5) (fun q => q = d')) x) : V w l WF G (QM w G WF none d' m 0 0) d m 0 0 34 [mA 1545, mI a1, mI a2, mI a3, mI a4, mI a5, mI v6] [mI s2, mI s1, mA 1660] := by
  unfold fX11_write_34 at h
  obtain ⟨hi24, h⟩ := ck_some h
  obtain ⟨d25, ed25, h⟩ := sd_some h
  refine v_bast F dX11_write_34 (ar_X11_166 hX hp) hi24 ?_
  refine v_nD ed25 ?_
  obtain ⟨x26, ex26, h⟩ := lv_some h
  refine v_iincN F dX11_write_35 (Nat.le_of_ble_eq_true rfl) rfl ex26 (L' := [mA 1545, mI a1, mI a2, mI a3, mI a4, mI a5, mI x26]) rfl ?_
  refine v_goto F dX11_write_38 rfl ?_
  cases h
  exact K
theorem fX11_write_3f_ok {w : Wd} {l : Launch} {G : Cx} {m dd : Dt} {a1 a2 a3 a4 a5 : Int} {d' : Dt} {s : Dt × Int} {x : ((Dt × Int) ⊕ Dt)} (F : Fx w G cX11_write RX11 7 none { frames := 2, cells := 0, slots := 0, locals := 47 }) (hX : WF dd m) (hp : PB m 1545 11) (h : fX11_write_3f a1 a2 a3 a4 a5 s = some x) (K : (Sum.elim (fX11_write_3P w l G (QM w G WF none d' m 0 0) m a1 a2 a3 a4 a5) (fun q => q = d')) x) : V w l WF G (QM w G WF none d' m 0 0) s.1 m 0 0 3 [mA 1545, mI a1, mI a2, mI a3, mI a4, mI a5, mI (s.2)] [] := by
  obtain ⟨d, v6⟩ := s
  unfold fX11_write_3f at h
  dsimp only at h
  refine v_iload F dX11_write_3 rfl ?_
  refine v_bipush F dX11_write_5 rfl ⟨by decide, by decide⟩ ?_
  refine v_icmp_ge F dX11_write_7 rfl (fun hq1 => ?_) (fun hq1 => ?_)
  · rw [if_pos hq1] at h
    obtain ⟨z, hu, ez⟩ := up_some h
    clear h
    subst ez
    have h := hu
    clear hu
    refine v_aload_n F dX11_write_41 rfl rfl ?_
    refine v_aload_n F dX11_write_42 rfl rfl ?_
    refine gf_X11_1144 F dX11_write_43 hp (v := 1660) rfl ?_
    refine v_bipush F dX11_write_46 rfl ⟨by decide, by decide⟩ ?_
    refine v_iload_n F dX11_write_48 rfl rfl ?_
    obtain ⟨d2, hc3, h⟩ := bd_some h
    refine v_callV0 (c := 11) F dX11_write_49 cv_X11_1265 rfl (PB.ob hp hX (Nat.le_of_ble_eq_true rfl)) (Nat.le_of_ble_eq_true rfl) rfl (vm_X11_lay4 hp (ar_X11_166 hX hp) hc3) rfl (rOk.of rfl) ?_
    refine v_aload_n F dX11_write_52 rfl rfl ?_
    refine v_aload_n F dX11_write_53 rfl rfl ?_
    refine gf_X11_1144 F dX11_write_54 hp (v := 1660) rfl ?_
    refine v_bipush F dX11_write_57 rfl ⟨by decide, by decide⟩ ?_
    refine v_iload_n F dX11_write_59 rfl rfl ?_
    obtain ⟨d4, hc5, h⟩ := bd_some h
    refine v_callV0 (c := 11) F dX11_write_60 cv_X11_1265 rfl (PB.ob hp hX (Nat.le_of_ble_eq_true rfl)) (Nat.le_of_ble_eq_true rfl) rfl (vm_X11_lay4 hp (ar_X11_166 hX hp) hc5) rfl (rOk.of rfl) ?_
    refine v_aload_n F dX11_write_63 rfl rfl ?_
    refine v_aload_n F dX11_write_64 rfl rfl ?_
    refine gf_X11_1144 F dX11_write_65 hp (v := 1660) rfl ?_
    refine v_bipush F dX11_write_68 rfl ⟨by decide, by decide⟩ ?_
    refine v_iload_n F dX11_write_70 rfl rfl ?_
    obtain ⟨d6, hc7, h⟩ := bd_some h
    refine v_callV0 (c := 11) F dX11_write_71 cv_X11_1265 rfl (PB.ob hp hX (Nat.le_of_ble_eq_true rfl)) (Nat.le_of_ble_eq_true rfl) rfl (vm_X11_lay4 hp (ar_X11_166 hX hp) hc7) rfl (rOk.of rfl) ?_
    refine v_aload_n F dX11_write_74 rfl rfl ?_
    refine v_aload_n F dX11_write_75 rfl rfl ?_
    refine gf_X11_1144 F dX11_write_76 hp (v := 1660) rfl ?_
    refine v_bipush F dX11_write_79 rfl ⟨by decide, by decide⟩ ?_
    refine v_iload F dX11_write_81 rfl ?_
    obtain ⟨d8, hc9, h⟩ := bd_some h
    refine v_callV0 (c := 11) F dX11_write_83 cv_X11_1265 rfl (PB.ob hp hX (Nat.le_of_ble_eq_true rfl)) (Nat.le_of_ble_eq_true rfl) rfl (vm_X11_lay4 hp (ar_X11_166 hX hp) hc9) rfl (rOk.of rfl) ?_
    refine v_aload_n F dX11_write_86 rfl rfl ?_
    refine v_aload_n F dX11_write_87 rfl rfl ?_
    refine gf_X11_1144 F dX11_write_88 hp (v := 1660) rfl ?_
    refine v_bipush F dX11_write_91 rfl ⟨by decide, by decide⟩ ?_
    refine v_iload F dX11_write_93 rfl ?_
    obtain ⟨d10, hc11, h⟩ := bd_some h
    refine v_callV0 (c := 11) F dX11_write_95 cv_X11_1265 rfl (PB.ob hp hX (Nat.le_of_ble_eq_true rfl)) (Nat.le_of_ble_eq_true rfl) rfl (vm_X11_lay4 hp (ar_X11_166 hX hp) hc11) rfl (rOk.of rfl) ?_
    refine v_aload_n F dX11_write_98 rfl rfl ?_
    refine gf_X11_1144 F dX11_write_99 hp (v := 1660) rfl ?_
    refine v_bipush F dX11_write_102 rfl ⟨by decide, by decide⟩ ?_
    refine v_bipush F dX11_write_104 rfl ⟨by decide, by decide⟩ ?_
    obtain ⟨d12, ed12, h⟩ := sd_some h
    refine v_bast F dX11_write_106 (ar_X11_166 hX hp) ⟨by decide, by decide⟩ ?_
    refine v_nD ed12 ?_
    refine v_aload_n F dX11_write_107 rfl rfl ?_
    refine v_aload_n F dX11_write_108 rfl rfl ?_
    refine gf_X11_1144 F dX11_write_109 hp (v := 1660) rfl ?_
    refine v_bipush F dX11_write_112 rfl ⟨by decide, by decide⟩ ?_
    refine v_sipush F dX11_write_114 rfl ⟨by decide, by decide⟩ ?_
    obtain ⟨d13, hc14, h⟩ := bd_some h
    refine v_callV0 (c := 11) F dX11_write_117 cv_X11_1265 rfl (PB.ob hp hX (Nat.le_of_ble_eq_true rfl)) (Nat.le_of_ble_eq_true rfl) rfl (vm_X11_lay4 hp (ar_X11_166 hX hp) hc14) rfl (rOk.of rfl) ?_
    refine v_aload_n F dX11_write_120 rfl rfl ?_
    obtain ⟨d15, hc16, h⟩ := bd_some h
    refine v_callV0 (c := 11) F dX11_write_121 cv_X11_1269 rfl (PB.ob hp hX (Nat.le_of_ble_eq_true rfl)) (Nat.le_of_ble_eq_true rfl) rfl (vm_X11_digest hp hc16) rfl (rOk.of rfl) ?_
    refine v_iconst F dX11_write_124 ⟨by decide, by decide⟩ ?_
    refine v_istore F dX11_write_125 (Nat.le_of_ble_eq_true rfl) (L' := [mA 1545, mI a1, mI a2, mI a3, mI a4, mI a5, mI 0]) rfl ?_
    refine v_fgt (L' := [mA 1545, mU, mU, mU, mU, mU, mI 0]) ⟨Or.inl rfl, Or.inr rfl, Or.inr rfl, Or.inr rfl, Or.inr rfl, Or.inr rfl, Or.inl rfl, trivial⟩ ?_
    exact fX11_write_127_ok F hX hp h K
  · rw [if_neg hq1] at h
    refine v_aload_n F dX11_write_10 rfl rfl ?_
    refine gf_X11_1144 F dX11_write_11 hp (v := 1660) rfl ?_
    refine v_iload F dX11_write_14 rfl ?_
    refine v_iload F dX11_write_16 rfl ?_
    refine v_bipush F dX11_write_18 rfl ⟨by decide, by decide⟩ ?_
    refine v_icmp_ge F dX11_write_20 rfl (fun hq23 => ?_) (fun hq23 => ?_)
    · rw [if_pos hq23] at h
      refine v_iconst F dX11_write_33 ⟨by decide, by decide⟩ ?_
      exact fX11_write_34_ok F hX hp h K
    · rw [if_neg hq23] at h
      refine v_aload_n F dX11_write_23 rfl rfl ?_
      refine gf_X11_1141 F dX11_write_24 hp (v := 1659) rfl ?_
      refine v_iload F dX11_write_27 rfl ?_
      obtain ⟨hi27, h⟩ := ck_some h
      refine v_bald F dX11_write_29 (ar_X11_164 hX hp) hi27 ?_
      refine v_goto F dX11_write_30 rfl ?_
      exact fX11_write_34_ok F hX hp h K
theorem fX11_write_3_ok {w : Wd} {l : Launch} {G : Cx} {d m dd : Dt} {a1 a2 a3 a4 a5 v6 : Int} {d' : Dt} {x : Dt} (F : Fx w G cX11_write RX11 7 none { frames := 2, cells := 0, slots := 0, locals := 47 }) (hX : WF dd m) (hp : PB m 1545 11) (h : fX11_write_3 d a1 a2 a3 a4 a5 v6 = some x) (K : (fun q => q = d') x) : V w l WF G (QM w G WF none d' m 0 0) d m 0 0 3 [mA 1545, mI a1, mI a2, mI a3, mI a4, mI a5, mI v6] [] := by
  unfold fX11_write_3 at h
  exact loop_ok (P := fX11_write_3P w l G (QM w G WF none d' m 0 0) m a1 a2 a3 a4 a5) (fun s x hx h1 h2 => fX11_write_3f_ok F hX hp hx (by
    cases x with
    | inl s' => exact h1 s' rfl
    | inr z => cases h2 z rfl; exact K)) h
theorem vm_X11_write {w : Wd} {l : Launch} {d m : Dt} {a1 a2 a3 a4 a5 : Int} {d' : Dt} (hp : PB m 1545 11) (h : fX11_write d a1 a2 a3 a4 a5 = some d') : VM w l WF yX11_write cX11_write 7 none 2 47 0 0 d m [mA 1545, mI a1, mI a2, mI a3, mI a4, mI a5] none d' m := by
  obtain ⟨x, h, K⟩ : ∃ x, fX11_write d a1 a2 a3 a4 a5 = some x ∧ x = d' := ⟨_, h, rfl⟩
  refine VM.of (L := [mA 1545, mI a1, mI a2, mI a3, mI a4, mI a5, mU]) (by decide +kernel) rfl (Nat.le_of_ble_eq_true rfl) fun G F _ => v_fact fun _ hX _ _ => ?_
  unfold fX11_write at h
  refine v_iconst F dX11_write_0 ⟨by decide, by decide⟩ ?_
  refine v_istore F dX11_write_1 (Nat.le_of_ble_eq_true rfl) (L' := [mA 1545, mI a1, mI a2, mI a3, mI a4, mI a5, mI 0]) rfl ?_
  exact fX11_write_3_ok F hX hp h K
theorem vm_X11_day {w : Wd} {l : Launch} {d m : Dt} {a1 : Int} {d' : Dt} {r : Int} (hp : PB m 1545 11) (h : fX11_day d a1 = some (d', r)) : VM w l WF yX11_day cX11_day 2 (some .int) 3 73 0 0 d m [mA 1545, mI a1] (some (mI r)) d' m := by
  obtain ⟨x, h, K⟩ : ∃ x, fX11_day d a1 = some x ∧ x = (d', r) := ⟨_, h, rfl⟩
  refine VM.of (L := [mA 1545, mI a1]) (by decide +kernel) rfl (Nat.le_of_ble_eq_true rfl) fun G F _ => v_fact fun _ hX _ _ => ?_
  unfold fX11_day at h
  refine v_iload_n F dX11_day_0 rfl rfl ?_
  refine v_i2l F dX11_day_1 ?_
  refine v_aload_n F dX11_day_2 rfl rfl ?_
  refine gf_X11_17 F dX11_day_3 hp ?_
  refine v_i2l F dX11_day_6 ?_
  refine v_ldc2 (n := 36524) F dX11_day_7 q2428 rfl ⟨by decide, by decide⟩ ?_
  refine v_callSv F dX11_day_10 cs_X11_13 rfl (vm_X11_in) rfl (rOk.of rfl) ?_
  refine v_if_ne F dX11_day_13 rfl (fun hq1 => ?_) (fun hq1 => ?_)
  · rw [if_neg hq1] at h
    refine v_aload_n F dX11_day_19 rfl rfl ?_
    refine v_iload_n F dX11_day_20 rfl rfl ?_
    obtain ⟨d2, ed2, h⟩ := sd_some h
    refine pf_X11_17 F dX11_day_21 hp ?_
    refine v_nD ed2 ?_
    refine v_aload_n F dX11_day_24 rfl rfl ?_
    refine v_iconst F dX11_day_25 ⟨by decide, by decide⟩ ?_
    refine v_iload_n F dX11_day_26 rfl rfl ?_
    refine v_iconst F dX11_day_27 ⟨by decide, by decide⟩ ?_
    refine v_iconst F dX11_day_28 ⟨by decide, by decide⟩ ?_
    refine v_iconst F dX11_day_29 ⟨by decide, by decide⟩ ?_
    obtain ⟨d3, hc4, h⟩ := bd_some h
    refine v_callV0 (c := 11) F dX11_day_30 cv_X11_22 rfl (PB.ob hp hX (Nat.le_of_ble_eq_true rfl)) (Nat.le_of_ble_eq_true rfl) rfl (vm_X11_write hp hc4) rfl (rOk.of rfl) ?_
    refine v_iload_n F dX11_day_33 rfl rfl ?_
    cases h
    cases (show _ = (d', r) from K)
    exact v_iret F dX11_day_34
  · rw [if_pos hq1] at h
    refine v_bipush F dX11_day_16 rfl ⟨by decide, by decide⟩ ?_
    cases h
    cases (show _ = (d', r) from K)
    exact v_iret F dX11_day_18
theorem vm_X1_add {w : Wd} {l : Launch} {d m : Dt} {a1 : Int} {d' : Dt} {r : Int} (hp : PB m 3 1) (h : fX1_add d a1 = some (d', r)) : VM w l WF yX1_add cX1_add 2 (some .int) 0 0 0 0 d m [mA 3, mI a1] (some (mI r)) d' m := by
  obtain ⟨x, h, K⟩ : ∃ x, fX1_add d a1 = some x ∧ x = (d', r) := ⟨_, h, rfl⟩
  refine VM.of (L := [mA 3, mI a1]) (by decide +kernel) rfl (Nat.le_of_ble_eq_true rfl) fun G F _ => v_fact fun _ hX _ _ => ?_
  unfold fX1_add at h
  refine v_aload_n F dX1_add_0 rfl rfl ?_
  refine gf_X1_9 F dX1_add_1 hp (v := 4) rfl ?_
  refine v_aload_n F dX1_add_4 rfl rfl ?_
  refine gf_X1_27 F dX1_add_5 hp ?_
  refine v_iload_n F dX1_add_8 rfl rfl ?_
  obtain ⟨x1, ex1, h⟩ := lv_some h
  refine v_n2 ex1 ?_
  obtain ⟨hi2, h⟩ := ck_some h
  obtain ⟨d3, ed3, h⟩ := sd_some h
  refine v_iast F dX1_add_9 (ar_X1_0 hX hp) hi2 ?_
  refine v_nD ed3 ?_
  refine v_aload_n F dX1_add_10 rfl rfl ?_
  refine v_dup_A F dX1_add_11 ?_
  refine gf_X1_27 F dX1_add_12 hp ?_
  refine v_iconst F dX1_add_15 ⟨by decide, by decide⟩ ?_
  refine v_iadd F dX1_add_16 ?_
  obtain ⟨d4, ed4, h⟩ := sd_some h
  refine pf_X1_27 F dX1_add_17 hp ?_
  refine v_nD ed4 ?_
  refine v_aload_n F dX1_add_20 rfl rfl ?_
  refine gf_X1_27 F dX1_add_21 hp ?_
  refine v_iconst F dX1_add_24 ⟨by decide, by decide⟩ ?_
  refine v_isub F dX1_add_25 ?_
  cases h
  cases (show _ = (d', r) from K)
  exact v_iret F dX1_add_26
theorem vm_X0_area {w : Wd} {l : Launch} {d m : Dt} {a1 : Int} {d' : Dt} {r : Int} (hp : PB m 1 0) (h : fX0_area d a1 = some (d', r)) : VM w l WF yX0_area cX0_area 2 (some .int) 4 115 0 0 d m [mA 1, mI a1] (some (mI r)) d' m := by
  obtain ⟨x, h, K⟩ : ∃ x, fX0_area d a1 = some x ∧ x = (d', r) := ⟨_, h, rfl⟩
  refine VM.of (L := [mA 1, mI a1]) (by decide +kernel) rfl (Nat.le_of_ble_eq_true rfl) fun G F _ => v_fact fun _ hX _ _ => ?_
  unfold fX0_area at h
  refine v_iload_n F dX0_area_0 rfl rfl ?_
  refine v_iconst F dX0_area_1 ⟨by decide, by decide⟩ ?_
  refine v_iconst F dX0_area_2 ⟨by decide, by decide⟩ ?_
  refine v_callSv F dX0_area_3 cs_X0_163 rfl (vm_X0_within) rfl (rOk.of rfl) ?_
  refine v_if_ne F dX0_area_6 rfl (fun hq1 => ?_) (fun hq1 => ?_)
  · rw [if_neg hq1] at h
    refine v_aload_n F dX0_area_12 rfl rfl ?_
    refine gf_X0_20 F dX0_area_13 hp (v := 3) rfl ?_
    refine gf_X0_176 F dX0_area_16 (ob_X0_3 hX hp) ?_
    refine v_bipush F dX0_area_19 rfl ⟨by decide, by decide⟩ ?_
    refine v_icmp_ne F dX0_area_21 rfl (fun hq2 => ?_) (fun hq2 => ?_)
    · rw [if_neg hq2] at h
      refine v_aload_n F dX0_area_27 rfl rfl ?_
      refine v_iconst F dX0_area_28 ⟨by decide, by decide⟩ ?_
      refine v_iload_n F dX0_area_29 rfl rfl ?_
      refine v_iconst F dX0_area_30 ⟨by decide, by decide⟩ ?_
      refine v_iconst F dX0_area_31 ⟨by decide, by decide⟩ ?_
      refine v_iconst F dX0_area_32 ⟨by decide, by decide⟩ ?_
      obtain ⟨d3, hc4, h⟩ := bd_some h
      refine v_callV0 (c := 0) F dX0_area_33 cv_X0_173 rfl (PB.ob hp hX (Nat.le_of_ble_eq_true rfl)) (Nat.le_of_ble_eq_true rfl) rfl (vm_X0_write hp hc4) rfl (rOk.of rfl) ?_
      refine v_aload_n F dX0_area_36 rfl rfl ?_
      refine gf_X0_20 F dX0_area_37 hp (v := 3) rfl ?_
      refine v_iload_n F dX0_area_40 rfl rfl ?_
      obtain ⟨d5, x7, hc6, h⟩ := b2_some h
      refine v_callVv (c := 1) F dX0_area_41 cv_X0_179 rfl (PB.ob (ob_X0_3 hX hp) hX (Nat.le_of_ble_eq_true rfl)) (Nat.le_of_ble_eq_true rfl) rfl (vm_X1_add (ob_X0_3 hX hp) hc6) rfl (rOk.of rfl) ?_
      cases h
      cases (show _ = (d', r) from K)
      exact v_iret F dX0_area_44
    · rw [if_pos hq2] at h
      refine v_bipush F dX0_area_24 rfl ⟨by decide, by decide⟩ ?_
      cases h
      cases (show _ = (d', r) from K)
      exact v_iret F dX0_area_26
  · rw [if_pos hq1] at h
    refine v_bipush F dX0_area_9 rfl ⟨by decide, by decide⟩ ?_
    cases h
    cases (show _ = (d', r) from K)
    exact v_iret F dX0_area_11
theorem vm_X11_area {w : Wd} {l : Launch} {d m : Dt} {a1 : Int} {d' : Dt} {r : Int} (hp : PB m 1545 11) (h : fX11_area d a1 = some (d', r)) : VM w l WF yX11_area cX11_area 2 (some .int) 3 73 0 0 d m [mA 1545, mI a1] (some (mI r)) d' m := by
  obtain ⟨x, h, K⟩ : ∃ x, fX11_area d a1 = some x ∧ x = (d', r) := ⟨_, h, rfl⟩
  refine VM.of (L := [mA 1545, mI a1]) (by decide +kernel) rfl (Nat.le_of_ble_eq_true rfl) fun G F _ => v_fact fun _ hX _ _ => ?_
  unfold fX11_area at h
  refine v_iload_n F dX11_area_0 rfl rfl ?_
  refine v_i2l F dX11_area_1 ?_
  refine v_lconst0 F dX11_area_2 ?_
  refine v_ldc2 (n := 2) F dX11_area_3 q2449 rfl ⟨by decide, by decide⟩ ?_
  refine v_callSv F dX11_area_6 cs_X11_13 rfl (vm_X11_in) rfl (rOk.of rfl) ?_
  refine v_if_ne F dX11_area_9 rfl (fun hq1 => ?_) (fun hq1 => ?_)
  · rw [if_neg hq1] at h
    refine v_aload_n F dX11_area_15 rfl rfl ?_
    refine gf_X11_61 F dX11_area_16 hp ?_
    refine v_bipush F dX11_area_19 rfl ⟨by decide, by decide⟩ ?_
    refine v_icmp_ne F dX11_area_21 rfl (fun hq2 => ?_) (fun hq2 => ?_)
    · rw [if_neg hq2] at h
      refine v_aload_n F dX11_area_27 rfl rfl ?_
      refine gf_X11_64 F dX11_area_28 hp (v := 1547) rfl ?_
      refine v_aload_n F dX11_area_31 rfl rfl ?_
      refine gf_X11_61 F dX11_area_32 hp ?_
      refine v_iload_n F dX11_area_35 rfl rfl ?_
      obtain ⟨x3, ex3, h⟩ := lv_some h
      refine v_n2 ex3 ?_
      obtain ⟨hi4, h⟩ := ck_some h
      obtain ⟨d5, ed5, h⟩ := sd_some h
      refine v_iast F dX11_area_36 (ar_X11_4 hX hp) hi4 ?_
      refine v_nD ed5 ?_
      refine v_aload_n F dX11_area_37 rfl rfl ?_
      refine v_iconst F dX11_area_38 ⟨by decide, by decide⟩ ?_
      refine v_iload_n F dX11_area_39 rfl rfl ?_
      refine v_iconst F dX11_area_40 ⟨by decide, by decide⟩ ?_
      refine v_iconst F dX11_area_41 ⟨by decide, by decide⟩ ?_
      refine v_iconst F dX11_area_42 ⟨by decide, by decide⟩ ?_
      obtain ⟨d6, hc7, h⟩ := bd_some h
      refine v_callV0 (c := 11) F dX11_area_43 cv_X11_22 rfl (PB.ob hp hX (Nat.le_of_ble_eq_true rfl)) (Nat.le_of_ble_eq_true rfl) rfl (vm_X11_write hp hc7) rfl (rOk.of rfl) ?_
      refine v_aload_n F dX11_area_46 rfl rfl ?_
      refine v_dup_A F dX11_area_47 ?_
      refine gf_X11_61 F dX11_area_48 hp ?_
      obtain ⟨x8, ex8, h⟩ := lv_some h
      refine v_nI ex8 ?_
      refine v_dup_x1_IA F dX11_area_51 ?_
      refine v_iconst F dX11_area_52 ⟨by decide, by decide⟩ ?_
      refine v_iadd F dX11_area_53 ?_
      obtain ⟨d9, ed9, h⟩ := sd_some h
      refine pf_X11_61 F dX11_area_54 hp ?_
      refine v_nD ed9 ?_
      cases h
      cases (show _ = (d', r) from K)
      exact v_iret F dX11_area_57
    · rw [if_pos hq2] at h
      refine v_bipush F dX11_area_24 rfl ⟨by decide, by decide⟩ ?_
      cases h
      cases (show _ = (d', r) from K)
      exact v_iret F dX11_area_26
  · rw [if_pos hq1] at h
    refine v_bipush F dX11_area_12 rfl ⟨by decide, by decide⟩ ?_
    cases h
    cases (show _ = (d', r) from K)
    exact v_iret F dX11_area_14
theorem vm_X1_has {w : Wd} {l : Launch} {d m : Dt} {a1 : Int} (hp : PB m 3 1) : VM w l WF yX1_has cX1_has 2 (some .boolean) 1 22 0 0 d m [mA 3, mI a1] (some (mI (fX1_has d a1))) d m := by
  obtain ⟨r, hr⟩ : ∃ r, fX1_has d a1 = r := ⟨_, rfl⟩
  rw [hr]
  obtain ⟨x, h, K⟩ : ∃ x, fX1_has d a1 = x ∧ x = r := ⟨_, hr, rfl⟩
  refine VM.of (L := [mA 3, mI a1]) (by decide +kernel) rfl (Nat.le_of_ble_eq_true rfl) fun G F _ => v_fact fun _ hX _ _ => ?_
  unfold fX1_has at h
  refine v_iload_n F dX1_has_0 rfl rfl ?_
  refine v_iconst F dX1_has_1 ⟨by decide, by decide⟩ ?_
  refine v_aload_n F dX1_has_2 rfl rfl ?_
  refine gf_X1_27 F dX1_has_3 hp ?_
  refine v_iconst F dX1_has_6 ⟨by decide, by decide⟩ ?_
  refine v_isub F dX1_has_7 ?_
  refine v_callSv F dX1_has_8 cs_X1_31 rfl (vm_X0_within) rfl (rOk.of rfl) ?_
  subst h
  cases (show _ = r from K)
  exact v_zret F (fX0_within_z) dX1_has_11
theorem fX1_has_z {d : Dt} {a1 : Int} : fX1_has d a1 = 0 ∨ fX1_has d a1 = 1 := by
  unfold fX1_has
  repeat' (first | exact Or.inl rfl | exact Or.inr rfl | split | assumption | exact fX0_within_z)
theorem vm_X12_isDay {w : Wd} {l : Launch} {X : Dt → Dt → Prop} {d m : Dt} {a1 : Int} : VM w l X yX12_isDay cX12_isDay 1 (some .boolean) 1 22 0 0 d m [mI a1] (some (mI (fX12_isDay a1))) d m := by
  obtain ⟨r, hr⟩ : ∃ r, fX12_isDay a1 = r := ⟨_, rfl⟩
  rw [hr]
  obtain ⟨x, h, K⟩ : ∃ x, fX12_isDay a1 = x ∧ x = r := ⟨_, hr, rfl⟩
  refine VM.of (L := [mI a1]) (by decide +kernel) rfl (Nat.le_of_ble_eq_true rfl) fun G F _ => ?_
  unfold fX12_isDay at h
  refine v_iload_n F dX12_isDay_0 rfl rfl ?_
  refine v_ldc (n := (-36524)) F dX12_isDay_1 q1189 rfl ⟨by decide, by decide⟩ ?_
  refine v_ldc (n := 36524) F dX12_isDay_3 q1190 rfl ⟨by decide, by decide⟩ ?_
  refine v_callSv F dX12_isDay_5 cs_X12_15 rfl (vm_X0_within) rfl (rOk.of rfl) ?_
  subst h
  cases (show _ = r from K)
  exact v_zret F (fX0_within_z) dX12_isDay_8
theorem fX12_isDay_z {a1 : Int} : fX12_isDay a1 = 0 ∨ fX12_isDay a1 = 1 := by
  unfold fX12_isDay
  repeat' (first | exact Or.inl rfl | exact Or.inr rfl | split | assumption | exact fX0_within_z)
theorem vm_X1_border {w : Wd} {l : Launch} {d m : Dt} {a1 a2 a3 a4 : Int} {d' : Dt} {r : Int} (hp : PB m 3 1) (h : fX1_border d a1 a2 a3 a4 = some (d', r)) : VM w l WF yX1_border cX1_border 5 (some .int) 0 0 0 0 d m [mA 3, mI a1, mI a2, mI a3, mI a4] (some (mI r)) d' m := by
  obtain ⟨x, h, K⟩ : ∃ x, fX1_border d a1 a2 a3 a4 = some x ∧ x = (d', r) := ⟨_, h, rfl⟩
  refine VM.of (L := [mA 3, mI a1, mI a2, mI a3, mI a4]) (by decide +kernel) rfl (Nat.le_of_ble_eq_true rfl) fun G F _ => v_fact fun _ hX _ _ => ?_
  unfold fX1_border at h
  refine v_aload_n F dX1_border_0 rfl rfl ?_
  refine gf_X1_15 F dX1_border_1 hp (v := 5) rfl ?_
  refine v_aload_n F dX1_border_4 rfl rfl ?_
  refine gf_X1_35 F dX1_border_5 hp ?_
  refine v_iload_n F dX1_border_8 rfl rfl ?_
  obtain ⟨x1, ex1, h⟩ := lv_some h
  refine v_n2 ex1 ?_
  obtain ⟨hi2, h⟩ := ck_some h
  obtain ⟨d3, ed3, h⟩ := sd_some h
  refine v_iast F dX1_border_9 (ar_X1_2 hX hp) hi2 ?_
  refine v_nD ed3 ?_
  refine v_aload_n F dX1_border_10 rfl rfl ?_
  refine gf_X1_18 F dX1_border_11 hp (v := 6) rfl ?_
  refine v_aload_n F dX1_border_14 rfl rfl ?_
  refine gf_X1_35 F dX1_border_15 hp ?_
  refine v_iload_n F dX1_border_18 rfl rfl ?_
  obtain ⟨x4, ex4, h⟩ := lv_some h
  refine v_n2 ex4 ?_
  obtain ⟨hi5, h⟩ := ck_some h
  obtain ⟨d6, ed6, h⟩ := sd_some h
  refine v_iast F dX1_border_19 (ar_X1_3 hX hp) hi5 ?_
  refine v_nD ed6 ?_
  refine v_aload_n F dX1_border_20 rfl rfl ?_
  refine gf_X1_21 F dX1_border_21 hp (v := 7) rfl ?_
  refine v_aload_n F dX1_border_24 rfl rfl ?_
  refine gf_X1_35 F dX1_border_25 hp ?_
  refine v_iload_n F dX1_border_28 rfl rfl ?_
  obtain ⟨x7, ex7, h⟩ := lv_some h
  refine v_n2 ex7 ?_
  obtain ⟨hi8, h⟩ := ck_some h
  obtain ⟨d9, ed9, h⟩ := sd_some h
  refine v_iast F dX1_border_29 (ar_X1_4 hX hp) hi8 ?_
  refine v_nD ed9 ?_
  refine v_aload_n F dX1_border_30 rfl rfl ?_
  refine gf_X1_24 F dX1_border_31 hp (v := 8) rfl ?_
  refine v_aload_n F dX1_border_34 rfl rfl ?_
  refine gf_X1_35 F dX1_border_35 hp ?_
  refine v_iload F dX1_border_38 rfl ?_
  obtain ⟨x10, ex10, h⟩ := lv_some h
  refine v_n2 ex10 ?_
  obtain ⟨hi11, h⟩ := ck_some h
  obtain ⟨d12, ed12, h⟩ := sd_some h
  refine v_iast F dX1_border_40 (ar_X1_5 hX hp) hi11 ?_
  refine v_nD ed12 ?_
  refine v_aload_n F dX1_border_41 rfl rfl ?_
  refine v_dup_A F dX1_border_42 ?_
  refine gf_X1_35 F dX1_border_43 hp ?_
  refine v_iconst F dX1_border_46 ⟨by decide, by decide⟩ ?_
  refine v_iadd F dX1_border_47 ?_
  obtain ⟨d13, ed13, h⟩ := sd_some h
  refine pf_X1_35 F dX1_border_48 hp ?_
  refine v_nD ed13 ?_
  refine v_aload_n F dX1_border_51 rfl rfl ?_
  refine gf_X1_35 F dX1_border_52 hp ?_
  cases h
  cases (show _ = (d', r) from K)
  exact v_iret F dX1_border_55
theorem vm_X0_border {w : Wd} {l : Launch} {d m : Dt} {a1 a2 a3 a4 : Int} {d' : Dt} {r : Int} (hp : PB m 1 0) (h : fX0_border d a1 a2 a3 a4 = some (d', r)) : VM w l WF yX0_border cX0_border 5 (some .int) 4 115 0 0 d m [mA 1, mI a1, mI a2, mI a3, mI a4] (some (mI r)) d' m := by
  obtain ⟨x, h, K⟩ : ∃ x, fX0_border d a1 a2 a3 a4 = some x ∧ x = (d', r) := ⟨_, h, rfl⟩
  refine VM.of (L := [mA 1, mI a1, mI a2, mI a3, mI a4]) (by decide +kernel) rfl (Nat.le_of_ble_eq_true rfl) fun G F _ => v_fact fun _ hX _ _ => ?_
  unfold fX0_border at h
  refine v_aload_n F dX0_border_0 rfl rfl ?_
  refine gf_X0_20 F dX0_border_1 hp (v := 3) rfl ?_
  refine v_iload_n F dX0_border_4 rfl rfl ?_
  refine v_callVv (c := 1) F dX0_border_5 cv_X0_182 rfl (PB.ob (ob_X0_3 hX hp) hX (Nat.le_of_ble_eq_true rfl)) (Nat.le_of_ble_eq_true rfl) rfl (vm_X1_has (ob_X0_3 hX hp)) rfl (rOk.of rfl) ?_
  refine v_if_ne F dX0_border_8 rfl (fun hq1 => ?_) (fun hq1 => ?_)
  · rw [if_neg hq1] at h
    refine v_iload_n F dX0_border_13 rfl rfl ?_
    refine v_iconst F dX0_border_14 ⟨by decide, by decide⟩ ?_
    refine v_sipush F dX0_border_15 rfl ⟨by decide, by decide⟩ ?_
    refine v_callSv F dX0_border_18 cs_X0_163 rfl (vm_X0_within) rfl (rOk.of rfl) ?_
    refine v_if_eq F dX0_border_21 rfl (fun hq2 => ?_) (fun hq2 => ?_)
    · rw [if_pos hq2] at h
      refine v_bipush F dX0_border_43 rfl ⟨by decide, by decide⟩ ?_
      cases h
      cases (show _ = (d', r) from K)
      exact v_iret F dX0_border_45
    · rw [if_neg hq2] at h
      refine v_iload_n F dX0_border_24 rfl rfl ?_
      refine v_iload_n F dX0_border_25 rfl rfl ?_
      refine v_sipush F dX0_border_26 rfl ⟨by decide, by decide⟩ ?_
      refine v_callSv F dX0_border_29 cs_X0_163 rfl (vm_X0_within) rfl (rOk.of rfl) ?_
      refine v_if_eq F dX0_border_32 rfl (fun hq3 => ?_) (fun hq3 => ?_)
      · rw [if_pos hq3] at h
        refine v_bipush F dX0_border_43 rfl ⟨by decide, by decide⟩ ?_
        cases h
        cases (show _ = (d', r) from K)
        exact v_iret F dX0_border_45
      · rw [if_neg hq3] at h
        refine v_iload F dX0_border_35 rfl ?_
        refine v_callSv F dX0_border_37 cs_X0_186 rfl (vm_X12_isDay) rfl (rOk.of rfl) ?_
        refine v_if_ne F dX0_border_40 rfl (fun hq4 => ?_) (fun hq4 => ?_)
        · rw [if_neg hq4] at h
          refine v_aload_n F dX0_border_46 rfl rfl ?_
          refine gf_X0_20 F dX0_border_47 hp (v := 3) rfl ?_
          refine gf_X0_189 F dX0_border_50 (ob_X0_3 hX hp) ?_
          refine v_bipush F dX0_border_53 rfl ⟨by decide, by decide⟩ ?_
          refine v_icmp_ne F dX0_border_55 rfl (fun hq5 => ?_) (fun hq5 => ?_)
          · rw [if_neg hq5] at h
            refine v_aload_n F dX0_border_61 rfl rfl ?_
            refine v_iconst F dX0_border_62 ⟨by decide, by decide⟩ ?_
            refine v_iload_n F dX0_border_63 rfl rfl ?_
            refine v_iload_n F dX0_border_64 rfl rfl ?_
            refine v_iload_n F dX0_border_65 rfl rfl ?_
            refine v_iload F dX0_border_66 rfl ?_
            obtain ⟨d6, hc7, h⟩ := bd_some h
            refine v_callV0 (c := 0) F dX0_border_68 cv_X0_173 rfl (PB.ob hp hX (Nat.le_of_ble_eq_true rfl)) (Nat.le_of_ble_eq_true rfl) rfl (vm_X0_write hp hc7) rfl (rOk.of rfl) ?_
            refine v_aload_n F dX0_border_71 rfl rfl ?_
            refine gf_X0_20 F dX0_border_72 hp (v := 3) rfl ?_
            refine v_iload_n F dX0_border_75 rfl rfl ?_
            refine v_iload_n F dX0_border_76 rfl rfl ?_
            refine v_iload_n F dX0_border_77 rfl rfl ?_
            refine v_iload F dX0_border_78 rfl ?_
            obtain ⟨d8, x10, hc9, h⟩ := b2_some h
            refine v_callVv (c := 1) F dX0_border_80 cv_X0_192 rfl (PB.ob (ob_X0_3 hX hp) hX (Nat.le_of_ble_eq_true rfl)) (Nat.le_of_ble_eq_true rfl) rfl (vm_X1_border (ob_X0_3 hX hp) hc9) rfl (rOk.of rfl) ?_
            cases h
            cases (show _ = (d', r) from K)
            exact v_iret F dX0_border_83
          · rw [if_pos hq5] at h
            refine v_bipush F dX0_border_58 rfl ⟨by decide, by decide⟩ ?_
            cases h
            cases (show _ = (d', r) from K)
            exact v_iret F dX0_border_60
        · rw [if_pos hq4] at h
          refine v_bipush F dX0_border_43 rfl ⟨by decide, by decide⟩ ?_
          cases h
          cases (show _ = (d', r) from K)
          exact v_iret F dX0_border_45
  · rw [if_pos hq1] at h
    refine v_iconst F dX0_border_11 ⟨by decide, by decide⟩ ?_
    cases h
    cases (show _ = (d', r) from K)
    exact v_iret F dX0_border_12
theorem vm_X11_isDay {w : Wd} {l : Launch} {X : Dt → Dt → Prop} {d m : Dt} {a1 : Int} : VM w l X yX11_isDay cX11_isDay 1 (some .boolean) 1 25 0 0 d m [mI a1] (some (mI (fX11_isDay a1))) d m := by
  obtain ⟨r, hr⟩ : ∃ r, fX11_isDay a1 = r := ⟨_, rfl⟩
  rw [hr]
  obtain ⟨x, h, K⟩ : ∃ x, fX11_isDay a1 = x ∧ x = r := ⟨_, hr, rfl⟩
  refine VM.of (L := [mI a1]) (by decide +kernel) rfl (Nat.le_of_ble_eq_true rfl) fun G F _ => ?_
  unfold fX11_isDay at h
  refine v_iload_n F dX11_isDay_0 rfl rfl ?_
  refine v_i2l F dX11_isDay_1 ?_
  refine v_ldc2 (n := (-36524)) F dX11_isDay_2 q2458 rfl ⟨by decide, by decide⟩ ?_
  refine v_ldc2 (n := 36524) F dX11_isDay_5 q2428 rfl ⟨by decide, by decide⟩ ?_
  refine v_callSv F dX11_isDay_8 cs_X11_13 rfl (vm_X11_in) rfl (rOk.of rfl) ?_
  subst h
  cases (show _ = r from K)
  exact v_zret F (fX11_in_z) dX11_isDay_11
theorem fX11_isDay_z {a1 : Int} : fX11_isDay a1 = 0 ∨ fX11_isDay a1 = 1 := by
  unfold fX11_isDay
  repeat' (first | exact Or.inl rfl | exact Or.inr rfl | split | assumption | exact fX11_in_z)
theorem vm_X11_border {w : Wd} {l : Launch} {d m : Dt} {a1 a2 a3 a4 : Int} {d' : Dt} {r : Int} (hp : PB m 1545 11) (h : fX11_border d a1 a2 a3 a4 = some (d', r)) : VM w l WF yX11_border cX11_border 5 (some .int) 3 73 0 0 d m [mA 1545, mI a1, mI a2, mI a3, mI a4] (some (mI r)) d' m := by
  obtain ⟨x, h, K⟩ : ∃ x, fX11_border d a1 a2 a3 a4 = some x ∧ x = (d', r) := ⟨_, h, rfl⟩
  refine VM.of (L := [mA 1545, mI a1, mI a2, mI a3, mI a4]) (by decide +kernel) rfl (Nat.le_of_ble_eq_true rfl) fun G F _ => v_fact fun _ hX _ _ => ?_
  unfold fX11_border at h
  refine v_iload_n F dX11_border_0 rfl rfl ?_
  refine v_i2l F dX11_border_1 ?_
  refine v_lconst0 F dX11_border_2 ?_
  refine v_aload_n F dX11_border_3 rfl rfl ?_
  refine gf_X11_61 F dX11_border_4 hp ?_
  refine v_iconst F dX11_border_7 ⟨by decide, by decide⟩ ?_
  refine v_isub F dX11_border_8 ?_
  refine v_i2l F dX11_border_9 ?_
  refine v_callSv F dX11_border_10 cs_X11_13 rfl (vm_X11_in) rfl (rOk.of rfl) ?_
  refine v_if_ne F dX11_border_13 rfl (fun hq1 => ?_) (fun hq1 => ?_)
  · rw [if_neg hq1] at h
    refine v_iload_n F dX11_border_18 rfl rfl ?_
    refine v_i2l F dX11_border_19 ?_
    refine v_lconst0 F dX11_border_20 ?_
    refine v_ldc2 (n := 999) F dX11_border_21 q2454 rfl ⟨by decide, by decide⟩ ?_
    refine v_callSv F dX11_border_24 cs_X11_13 rfl (vm_X11_in) rfl (rOk.of rfl) ?_
    refine v_if_eq F dX11_border_27 rfl (fun hq2 => ?_) (fun hq2 => ?_)
    · rw [if_pos hq2] at h
      refine v_bipush F dX11_border_51 rfl ⟨by decide, by decide⟩ ?_
      cases h
      cases (show _ = (d', r) from K)
      exact v_iret F dX11_border_53
    · rw [if_neg hq2] at h
      refine v_iload_n F dX11_border_30 rfl rfl ?_
      refine v_i2l F dX11_border_31 ?_
      refine v_iload_n F dX11_border_32 rfl rfl ?_
      refine v_i2l F dX11_border_33 ?_
      refine v_ldc2 (n := 999) F dX11_border_34 q2454 rfl ⟨by decide, by decide⟩ ?_
      refine v_callSv F dX11_border_37 cs_X11_13 rfl (vm_X11_in) rfl (rOk.of rfl) ?_
      refine v_if_eq F dX11_border_40 rfl (fun hq3 => ?_) (fun hq3 => ?_)
      · rw [if_pos hq3] at h
        refine v_bipush F dX11_border_51 rfl ⟨by decide, by decide⟩ ?_
        cases h
        cases (show _ = (d', r) from K)
        exact v_iret F dX11_border_53
      · rw [if_neg hq3] at h
        refine v_iload F dX11_border_43 rfl ?_
        refine v_callSv F dX11_border_45 cs_X11_70 rfl (vm_X11_isDay) rfl (rOk.of rfl) ?_
        refine v_if_ne F dX11_border_48 rfl (fun hq4 => ?_) (fun hq4 => ?_)
        · rw [if_neg hq4] at h
          refine v_aload_n F dX11_border_54 rfl rfl ?_
          refine gf_X11_74 F dX11_border_55 hp ?_
          refine v_bipush F dX11_border_58 rfl ⟨by decide, by decide⟩ ?_
          refine v_icmp_ne F dX11_border_60 rfl (fun hq5 => ?_) (fun hq5 => ?_)
          · rw [if_neg hq5] at h
            refine v_aload_n F dX11_border_66 rfl rfl ?_
            refine gf_X11_77 F dX11_border_67 hp (v := 1548) rfl ?_
            refine v_aload_n F dX11_border_70 rfl rfl ?_
            refine gf_X11_74 F dX11_border_71 hp ?_
            refine v_iload_n F dX11_border_74 rfl rfl ?_
            obtain ⟨x6, ex6, h⟩ := lv_some h
            refine v_n2 ex6 ?_
            obtain ⟨hi7, h⟩ := ck_some h
            obtain ⟨d8, ed8, h⟩ := sd_some h
            refine v_iast F dX11_border_75 (ar_X11_6 hX hp) hi7 ?_
            refine v_nD ed8 ?_
            refine v_aload_n F dX11_border_76 rfl rfl ?_
            refine gf_X11_80 F dX11_border_77 hp (v := 1549) rfl ?_
            refine v_aload_n F dX11_border_80 rfl rfl ?_
            refine gf_X11_74 F dX11_border_81 hp ?_
            refine v_iload_n F dX11_border_84 rfl rfl ?_
            obtain ⟨x9, ex9, h⟩ := lv_some h
            refine v_n2 ex9 ?_
            obtain ⟨hi10, h⟩ := ck_some h
            obtain ⟨d11, ed11, h⟩ := sd_some h
            refine v_iast F dX11_border_85 (ar_X11_7 hX hp) hi10 ?_
            refine v_nD ed11 ?_
            refine v_aload_n F dX11_border_86 rfl rfl ?_
            refine gf_X11_83 F dX11_border_87 hp (v := 1550) rfl ?_
            refine v_aload_n F dX11_border_90 rfl rfl ?_
            refine gf_X11_74 F dX11_border_91 hp ?_
            refine v_iload_n F dX11_border_94 rfl rfl ?_
            obtain ⟨x12, ex12, h⟩ := lv_some h
            refine v_n2 ex12 ?_
            obtain ⟨hi13, h⟩ := ck_some h
            obtain ⟨d14, ed14, h⟩ := sd_some h
            refine v_iast F dX11_border_95 (ar_X11_8 hX hp) hi13 ?_
            refine v_nD ed14 ?_
            refine v_aload_n F dX11_border_96 rfl rfl ?_
            refine gf_X11_86 F dX11_border_97 hp (v := 1551) rfl ?_
            refine v_aload_n F dX11_border_100 rfl rfl ?_
            refine gf_X11_74 F dX11_border_101 hp ?_
            refine v_iload F dX11_border_104 rfl ?_
            obtain ⟨x15, ex15, h⟩ := lv_some h
            refine v_n2 ex15 ?_
            obtain ⟨hi16, h⟩ := ck_some h
            obtain ⟨d17, ed17, h⟩ := sd_some h
            refine v_iast F dX11_border_106 (ar_X11_9 hX hp) hi16 ?_
            refine v_nD ed17 ?_
            refine v_aload_n F dX11_border_107 rfl rfl ?_
            refine v_dup_A F dX11_border_108 ?_
            refine gf_X11_74 F dX11_border_109 hp ?_
            refine v_iconst F dX11_border_112 ⟨by decide, by decide⟩ ?_
            refine v_iadd F dX11_border_113 ?_
            obtain ⟨d18, ed18, h⟩ := sd_some h
            refine pf_X11_74 F dX11_border_114 hp ?_
            refine v_nD ed18 ?_
            refine v_aload_n F dX11_border_117 rfl rfl ?_
            refine v_iconst F dX11_border_118 ⟨by decide, by decide⟩ ?_
            refine v_iload_n F dX11_border_119 rfl rfl ?_
            refine v_iload_n F dX11_border_120 rfl rfl ?_
            refine v_iload_n F dX11_border_121 rfl rfl ?_
            refine v_iload F dX11_border_122 rfl ?_
            obtain ⟨d19, hc20, h⟩ := bd_some h
            refine v_callV0 (c := 11) F dX11_border_124 cv_X11_22 rfl (PB.ob hp hX (Nat.le_of_ble_eq_true rfl)) (Nat.le_of_ble_eq_true rfl) rfl (vm_X11_write hp hc20) rfl (rOk.of rfl) ?_
            refine v_aload_n F dX11_border_127 rfl rfl ?_
            refine gf_X11_74 F dX11_border_128 hp ?_
            cases h
            cases (show _ = (d', r) from K)
            exact v_iret F dX11_border_131
          · rw [if_pos hq5] at h
            refine v_bipush F dX11_border_63 rfl ⟨by decide, by decide⟩ ?_
            cases h
            cases (show _ = (d', r) from K)
            exact v_iret F dX11_border_65
        · rw [if_pos hq4] at h
          refine v_bipush F dX11_border_51 rfl ⟨by decide, by decide⟩ ?_
          cases h
          cases (show _ = (d', r) from K)
          exact v_iret F dX11_border_53
  · rw [if_pos hq1] at h
    refine v_iconst F dX11_border_16 ⟨by decide, by decide⟩ ?_
    cases h
    cases (show _ = (d', r) from K)
    exact v_iret F dX11_border_17
def fX1_areaOf_8P (w : Wd) (l : Launch) (G : Cx) (Q : State → Prop) (m : Dt) (d : Dt) (a1 a2 a3 : Int) (s : Int) : Prop := V w l WF G Q d m 0 0 8 [mA 3, mI a1, mI a2, mI a3, mI (s)] []
theorem fX1_areaOf_8f_ok {w : Wd} {l : Launch} {G : Cx} {d m dd : Dt} {a1 a2 a3 : Int} {r : Int} {s : Int} {x : ((Int) ⊕ Int)} (F : Fx w G cX1_areaOf RX1 5 (some .int) { frames := 1, cells := 0, slots := 0, locals := 22 }) (hX : WF dd m) (hp : PB m 3 1) (h : fX1_areaOf_8f d a1 a2 a3 s = some x) (K : (Sum.elim (fX1_areaOf_8P w l G (QM w G WF (some (mI r)) d m 0 0) m d a1 a2 a3) (fun q => q = r)) x) : V w l WF G (QM w G WF (some (mI r)) d m 0 0) d m 0 0 8 [mA 3, mI a1, mI a2, mI a3, mI (s)] [] := by
  obtain ⟨v4, rfl⟩ : ∃ z, z = s := ⟨s, rfl⟩
  unfold fX1_areaOf_8f at h
  dsimp only at h
  refine v_iload F dX1_areaOf_8 rfl ?_
  refine v_if_lt F dX1_areaOf_10 rfl (fun hq2 => ?_) (fun hq2 => ?_)
  · rw [if_pos hq2] at h
    obtain ⟨z, hu, ez⟩ := up_some h
    clear h
    subst ez
    have h := hu
    clear hu
    refine v_iconst F dX1_areaOf_75 ⟨by decide, by decide⟩ ?_
    cases h
    cases (show _ = r from K)
    exact v_iret F dX1_areaOf_76
  · rw [if_neg hq2] at h
    refine v_aload_n F dX1_areaOf_13 rfl rfl ?_
    refine gf_X1_9 F dX1_areaOf_14 hp (v := 4) rfl ?_
    refine v_aload_n F dX1_areaOf_17 rfl rfl ?_
    refine gf_X1_15 F dX1_areaOf_18 hp (v := 5) rfl ?_
    refine v_iload F dX1_areaOf_21 rfl ?_
    obtain ⟨hi3, h⟩ := ck_some h
    refine v_iald F dX1_areaOf_23 (ar_X1_2 hX hp) hi3 ?_
    obtain ⟨x4, ex4, h⟩ := lv_some h
    refine v_nI ex4 ?_
    obtain ⟨hi5, h⟩ := ck_some h
    refine v_iald F dX1_areaOf_24 (ar_X1_0 hX hp) hi5 ?_
    refine v_iload_n F dX1_areaOf_25 rfl rfl ?_
    refine v_icmp_ne F dX1_areaOf_26 rfl (fun hq6 => ?_) (fun hq6 => ?_)
    · rw [if_neg hq6] at h
      obtain ⟨x7, ex7, h⟩ := lv_some h
      refine v_iincN F dX1_areaOf_69 (Nat.le_of_ble_eq_true rfl) rfl ex7 (L' := [mA 3, mI a1, mI a2, mI a3, mI x7]) rfl ?_
      refine v_goto F dX1_areaOf_72 rfl ?_
      cases h
      exact K
    · rw [if_pos hq6] at h
      refine v_iload_n F dX1_areaOf_29 rfl rfl ?_
      refine v_aload_n F dX1_areaOf_30 rfl rfl ?_
      refine gf_X1_18 F dX1_areaOf_31 hp (v := 6) rfl ?_
      refine v_iload F dX1_areaOf_34 rfl ?_
      refine v_iald F dX1_areaOf_36 (ar_X1_3 hX hp) hi3 ?_
      refine v_aload_n F dX1_areaOf_37 rfl rfl ?_
      refine gf_X1_21 F dX1_areaOf_38 hp (v := 7) rfl ?_
      refine v_iload F dX1_areaOf_41 rfl ?_
      refine v_iald F dX1_areaOf_43 (ar_X1_4 hX hp) hi3 ?_
      refine v_callSv F dX1_areaOf_44 cs_X1_31 rfl (vm_X0_within) rfl (rOk.of rfl) ?_
      refine v_if_eq F dX1_areaOf_47 rfl (fun hq8 => ?_) (fun hq8 => ?_)
      · rw [if_pos hq8] at h
        obtain ⟨x9, ex9, h⟩ := lv_some h
        refine v_iincN F dX1_areaOf_69 (Nat.le_of_ble_eq_true rfl) rfl ex9 (L' := [mA 3, mI a1, mI a2, mI a3, mI x9]) rfl ?_
        refine v_goto F dX1_areaOf_72 rfl ?_
        cases h
        exact K
      · rw [if_neg hq8] at h
        refine v_aload_n F dX1_areaOf_50 rfl rfl ?_
        refine gf_X1_24 F dX1_areaOf_51 hp (v := 8) rfl ?_
        refine v_iload F dX1_areaOf_54 rfl ?_
        refine v_iald F dX1_areaOf_56 (ar_X1_5 hX hp) hi3 ?_
        refine v_iload_n F dX1_areaOf_57 rfl rfl ?_
        refine v_icmp_gt F dX1_areaOf_58 rfl (fun hq10 => ?_) (fun hq10 => ?_)
        · rw [if_pos hq10] at h
          obtain ⟨x11, ex11, h⟩ := lv_some h
          refine v_iincN F dX1_areaOf_69 (Nat.le_of_ble_eq_true rfl) rfl ex11 (L' := [mA 3, mI a1, mI a2, mI a3, mI x11]) rfl ?_
          refine v_goto F dX1_areaOf_72 rfl ?_
          cases h
          exact K
        · rw [if_neg hq10] at h
          obtain ⟨z, hu, ez⟩ := up_some h
          clear h
          subst ez
          have h := hu
          clear hu
          refine v_aload_n F dX1_areaOf_61 rfl rfl ?_
          refine gf_X1_15 F dX1_areaOf_62 hp (v := 5) rfl ?_
          refine v_iload F dX1_areaOf_65 rfl ?_
          refine v_iald F dX1_areaOf_67 (ar_X1_2 hX hp) hi3 ?_
          cases h
          cases (show _ = r from K)
          exact v_iret F dX1_areaOf_68
theorem fX1_areaOf_8_ok {w : Wd} {l : Launch} {G : Cx} {d m dd : Dt} {a1 a2 a3 v4 : Int} {r : Int} {x : Int} (F : Fx w G cX1_areaOf RX1 5 (some .int) { frames := 1, cells := 0, slots := 0, locals := 22 }) (hX : WF dd m) (hp : PB m 3 1) (h : fX1_areaOf_8 d a1 a2 a3 v4 = some x) (K : (fun q => q = r) x) : V w l WF G (QM w G WF (some (mI r)) d m 0 0) d m 0 0 8 [mA 3, mI a1, mI a2, mI a3, mI v4] [] := by
  unfold fX1_areaOf_8 at h
  exact loop_ok (P := fX1_areaOf_8P w l G (QM w G WF (some (mI r)) d m 0 0) m d a1 a2 a3) (fun s x hx h1 h2 => fX1_areaOf_8f_ok F hX hp hx (by
    cases x with
    | inl s' => exact h1 s' rfl
    | inr z => cases h2 z rfl; exact K)) h
theorem vm_X1_areaOf {w : Wd} {l : Launch} {d m : Dt} {a1 a2 a3 : Int} {r : Int} (hp : PB m 3 1) (h : fX1_areaOf d a1 a2 a3 = some r) : VM w l WF yX1_areaOf cX1_areaOf 5 (some .int) 1 22 0 0 d m [mA 3, mI a1, mI a2, mI a3] (some (mI r)) d m := by
  obtain ⟨x, h, K⟩ : ∃ x, fX1_areaOf d a1 a2 a3 = some x ∧ x = r := ⟨_, h, rfl⟩
  refine VM.of (L := [mA 3, mI a1, mI a2, mI a3, mU]) (by decide +kernel) rfl (Nat.le_of_ble_eq_true rfl) fun G F _ => v_fact fun _ hX _ _ => ?_
  unfold fX1_areaOf at h
  refine v_aload_n F dX1_areaOf_0 rfl rfl ?_
  refine gf_X1_35 F dX1_areaOf_1 hp ?_
  refine v_iconst F dX1_areaOf_4 ⟨by decide, by decide⟩ ?_
  refine v_isub F dX1_areaOf_5 ?_
  obtain ⟨x1, ex1, h⟩ := lv_some h
  refine v_nI ex1 ?_
  refine v_istore F dX1_areaOf_6 (Nat.le_of_ble_eq_true rfl) (L' := [mA 3, mI a1, mI a2, mI a3, mI x1]) rfl ?_
  exact fX1_areaOf_8_ok F hX hp h K
theorem vm_X0_areaOf {w : Wd} {l : Launch} {d m : Dt} {a1 a2 a3 : Int} {r : Int} (hp : PB m 1 0) (h : fX0_areaOf d a1 a2 a3 = some r) : VM w l WF yX0_areaOf cX0_areaOf 4 (some .int) 2 46 0 0 d m [mA 1, mI a1, mI a2, mI a3] (some (mI r)) d m := by
  obtain ⟨x, h, K⟩ : ∃ x, fX0_areaOf d a1 a2 a3 = some x ∧ x = r := ⟨_, h, rfl⟩
  refine VM.of (L := [mA 1, mI a1, mI a2, mI a3]) (by decide +kernel) rfl (Nat.le_of_ble_eq_true rfl) fun G F _ => v_fact fun _ hX _ _ => ?_
  unfold fX0_areaOf at h
  refine v_iload_n F dX0_areaOf_0 rfl rfl ?_
  refine v_iconst F dX0_areaOf_1 ⟨by decide, by decide⟩ ?_
  refine v_iconst F dX0_areaOf_2 ⟨by decide, by decide⟩ ?_
  refine v_callSv F dX0_areaOf_3 cs_X0_163 rfl (vm_X0_within) rfl (rOk.of rfl) ?_
  refine v_if_eq F dX0_areaOf_6 rfl (fun hq1 => ?_) (fun hq1 => ?_)
  · rw [if_pos hq1] at h
    refine v_bipush F dX0_areaOf_27 rfl ⟨by decide, by decide⟩ ?_
    cases h
    cases (show _ = r from K)
    exact v_iret F dX0_areaOf_29
  · rw [if_neg hq1] at h
    refine v_iload_n F dX0_areaOf_9 rfl rfl ?_
    refine v_iconst F dX0_areaOf_10 ⟨by decide, by decide⟩ ?_
    refine v_sipush F dX0_areaOf_11 rfl ⟨by decide, by decide⟩ ?_
    refine v_callSv F dX0_areaOf_14 cs_X0_163 rfl (vm_X0_within) rfl (rOk.of rfl) ?_
    refine v_if_eq F dX0_areaOf_17 rfl (fun hq2 => ?_) (fun hq2 => ?_)
    · rw [if_pos hq2] at h
      refine v_bipush F dX0_areaOf_27 rfl ⟨by decide, by decide⟩ ?_
      cases h
      cases (show _ = r from K)
      exact v_iret F dX0_areaOf_29
    · rw [if_neg hq2] at h
      refine v_iload_n F dX0_areaOf_20 rfl rfl ?_
      refine v_callSv F dX0_areaOf_21 cs_X0_186 rfl (vm_X12_isDay) rfl (rOk.of rfl) ?_
      refine v_if_ne F dX0_areaOf_24 rfl (fun hq3 => ?_) (fun hq3 => ?_)
      · rw [if_neg hq3] at h
        refine v_aload_n F dX0_areaOf_30 rfl rfl ?_
        refine gf_X0_20 F dX0_areaOf_31 hp (v := 3) rfl ?_
        refine v_iload_n F dX0_areaOf_34 rfl rfl ?_
        refine v_iload_n F dX0_areaOf_35 rfl rfl ?_
        refine v_iload_n F dX0_areaOf_36 rfl rfl ?_
        obtain ⟨x4, hc5, h⟩ := b1_some h
        refine v_callVv (c := 1) F dX0_areaOf_37 cv_X0_196 rfl (PB.ob (ob_X0_3 hX hp) hX (Nat.le_of_ble_eq_true rfl)) (Nat.le_of_ble_eq_true rfl) rfl (vm_X1_areaOf (ob_X0_3 hX hp) hc5) rfl (rOk.of rfl) ?_
        cases h
        cases (show _ = r from K)
        exact v_iret F dX0_areaOf_40
      · rw [if_pos hq3] at h
        refine v_bipush F dX0_areaOf_27 rfl ⟨by decide, by decide⟩ ?_
        cases h
        cases (show _ = r from K)
        exact v_iret F dX0_areaOf_29
def fX11_lies_6P (w : Wd) (l : Launch) (G : Cx) (Q : State → Prop) (m : Dt) (d : Dt) (a1 a2 a3 : Int) (s : Int × Int) : Prop := V w l WF G Q d m 0 0 6 [mA 1545, mI a1, mI a2, mI a3, mI (s.1), mI (s.2), mU] []
theorem fX11_lies_71_ok {w : Wd} {l : Launch} {G : Cx} {d m dd : Dt} {a1 a2 a3 v4 v5 s0 : Int} {r : Int} {x : ((Int × Int) ⊕ Int)} (F : Fx w G cX11_lies RX11 7 (some .int) { frames := 1, cells := 0, slots := 0, locals := 25 }) (hX : WF dd m) (hp : PB m 1545 11) (h : fX11_lies_71 d a1 a2 a3 v4 v5 s0 = some x) (K : (Sum.elim (fX11_lies_6P w l G (QM w G WF (some (mI r)) d m 0 0) m d a1 a2 a3) (fun q => q = r)) x) : V w l WF G (QM w G WF (some (mI r)) d m 0 0) d m 0 0 71 [mA 1545, mI a1, mI a2, mI a3, mI v4, mI v5, mU] [mI s0] := by
  unfold fX11_lies_71 at h
  refine v_istore F dX11_lies_71 (Nat.le_of_ble_eq_true rfl) (L' := [mA 1545, mI a1, mI a2, mI a3, mI v4, mI v5, mI s0]) rfl ?_
  refine v_iload F dX11_lies_73 rfl ?_
  refine v_if_eq F dX11_lies_75 rfl (fun hq6 => ?_) (fun hq6 => ?_)
  · rw [if_pos hq6] at h
    refine v_iload F dX11_lies_88 rfl ?_
    refine v_istore F dX11_lies_90 (Nat.le_of_ble_eq_true rfl) (L' := [mA 1545, mI a1, mI a2, mI a3, mI v4, mI v5, mI s0]) rfl ?_
    obtain ⟨x7, ex7, h⟩ := lv_some h
    refine v_iincN F dX11_lies_92 (Nat.le_of_ble_eq_true rfl) rfl ex7 (L' := [mA 1545, mI a1, mI a2, mI a3, mI v4, mI x7, mI s0]) rfl ?_
    refine v_goto F dX11_lies_95 rfl ?_
    cases h
    refine v_fgt (L' := [mA 1545, mI a1, mI a2, mI a3, mI v4, mI x7, mU]) ⟨Or.inl rfl, Or.inl rfl, Or.inl rfl, Or.inl rfl, Or.inl rfl, Or.inl rfl, Or.inr rfl, trivial⟩ ?_
    exact K
  · rw [if_neg hq6] at h
    refine v_aload_n F dX11_lies_78 rfl rfl ?_
    refine gf_X11_77 F dX11_lies_79 hp (v := 1548) rfl ?_
    refine v_iload F dX11_lies_82 rfl ?_
    obtain ⟨hi8, h⟩ := ck_some h
    refine v_iald F dX11_lies_84 (ar_X11_6 hX hp) hi8 ?_
    refine v_goto F dX11_lies_85 rfl ?_
    obtain ⟨x9, ex9, h⟩ := lv_some h
    refine v_nI ex9 ?_
    refine v_istore F dX11_lies_90 (Nat.le_of_ble_eq_true rfl) (L' := [mA 1545, mI a1, mI a2, mI a3, mI x9, mI v5, mI s0]) rfl ?_
    obtain ⟨x10, ex10, h⟩ := lv_some h
    refine v_iincN F dX11_lies_92 (Nat.le_of_ble_eq_true rfl) rfl ex10 (L' := [mA 1545, mI a1, mI a2, mI a3, mI x9, mI x10, mI s0]) rfl ?_
    refine v_goto F dX11_lies_95 rfl ?_
    cases h
    refine v_fgt (L' := [mA 1545, mI a1, mI a2, mI a3, mI x9, mI x10, mU]) ⟨Or.inl rfl, Or.inl rfl, Or.inl rfl, Or.inl rfl, Or.inl rfl, Or.inl rfl, Or.inr rfl, trivial⟩ ?_
    exact K
theorem fX11_lies_6f_ok {w : Wd} {l : Launch} {G : Cx} {d m dd : Dt} {a1 a2 a3 : Int} {r : Int} {s : Int × Int} {x : ((Int × Int) ⊕ Int)} (F : Fx w G cX11_lies RX11 7 (some .int) { frames := 1, cells := 0, slots := 0, locals := 25 }) (hX : WF dd m) (hp : PB m 1545 11) (h : fX11_lies_6f d a1 a2 a3 s = some x) (K : (Sum.elim (fX11_lies_6P w l G (QM w G WF (some (mI r)) d m 0 0) m d a1 a2 a3) (fun q => q = r)) x) : V w l WF G (QM w G WF (some (mI r)) d m 0 0) d m 0 0 6 [mA 1545, mI a1, mI a2, mI a3, mI (s.1), mI (s.2), mU] [] := by
  obtain ⟨v4, v5⟩ := s
  unfold fX11_lies_6f at h
  dsimp only at h
  refine v_iload F dX11_lies_6 rfl ?_
  refine v_aload_n F dX11_lies_8 rfl rfl ?_
  refine gf_X11_74 F dX11_lies_9 hp ?_
  refine v_icmp_ge F dX11_lies_12 rfl (fun hq1 => ?_) (fun hq1 => ?_)
  · rw [if_pos hq1] at h
    obtain ⟨z, hu, ez⟩ := up_some h
    clear h
    subst ez
    have h := hu
    clear hu
    refine v_iload F dX11_lies_98 rfl ?_
    cases h
    cases (show _ = r from K)
    exact v_iret F dX11_lies_100
  · rw [if_neg hq1] at h
    refine v_aload_n F dX11_lies_15 rfl rfl ?_
    refine gf_X11_64 F dX11_lies_16 hp (v := 1547) rfl ?_
    refine v_aload_n F dX11_lies_19 rfl rfl ?_
    refine gf_X11_77 F dX11_lies_20 hp (v := 1548) rfl ?_
    refine v_iload F dX11_lies_23 rfl ?_
    obtain ⟨hi2, h⟩ := ck_some h
    refine v_iald F dX11_lies_25 (ar_X11_6 hX hp) hi2 ?_
    obtain ⟨x3, ex3, h⟩ := lv_some h
    refine v_nI ex3 ?_
    obtain ⟨hi4, h⟩ := ck_some h
    refine v_iald F dX11_lies_26 (ar_X11_4 hX hp) hi4 ?_
    refine v_iload_n F dX11_lies_27 rfl rfl ?_
    refine v_icmp_ne F dX11_lies_28 rfl (fun hq5 => ?_) (fun hq5 => ?_)
    · rw [if_neg hq5] at h
      refine v_iconst F dX11_lies_70 ⟨by decide, by decide⟩ ?_
      exact fX11_lies_71_ok F hX hp h K
    · rw [if_pos hq5] at h
      refine v_iload_n F dX11_lies_31 rfl rfl ?_
      refine v_i2l F dX11_lies_32 ?_
      refine v_aload_n F dX11_lies_33 rfl rfl ?_
      refine gf_X11_80 F dX11_lies_34 hp (v := 1549) rfl ?_
      refine v_iload F dX11_lies_37 rfl ?_
      refine v_iald F dX11_lies_39 (ar_X11_7 hX hp) hi2 ?_
      refine v_i2l F dX11_lies_40 ?_
      refine v_aload_n F dX11_lies_41 rfl rfl ?_
      refine gf_X11_83 F dX11_lies_42 hp (v := 1550) rfl ?_
      refine v_iload F dX11_lies_45 rfl ?_
      refine v_iald F dX11_lies_47 (ar_X11_8 hX hp) hi2 ?_
      refine v_i2l F dX11_lies_48 ?_
      refine v_callSv F dX11_lies_49 cs_X11_13 rfl (vm_X11_in) rfl (rOk.of rfl) ?_
      refine v_if_eq F dX11_lies_52 rfl (fun hq11 => ?_) (fun hq11 => ?_)
      · rw [if_pos hq11] at h
        refine v_iconst F dX11_lies_70 ⟨by decide, by decide⟩ ?_
        exact fX11_lies_71_ok F hX hp h K
      · rw [if_neg hq11] at h
        refine v_aload_n F dX11_lies_55 rfl rfl ?_
        refine gf_X11_86 F dX11_lies_56 hp (v := 1551) rfl ?_
        refine v_iload F dX11_lies_59 rfl ?_
        refine v_iald F dX11_lies_61 (ar_X11_9 hX hp) hi2 ?_
        refine v_iload_n F dX11_lies_62 rfl rfl ?_
        refine v_icmp_gt F dX11_lies_63 rfl (fun hq12 => ?_) (fun hq12 => ?_)
        · rw [if_pos hq12] at h
          refine v_iconst F dX11_lies_70 ⟨by decide, by decide⟩ ?_
          exact fX11_lies_71_ok F hX hp h K
        · rw [if_neg hq12] at h
          refine v_iconst F dX11_lies_66 ⟨by decide, by decide⟩ ?_
          refine v_goto F dX11_lies_67 rfl ?_
          exact fX11_lies_71_ok F hX hp h K
theorem fX11_lies_6_ok {w : Wd} {l : Launch} {G : Cx} {d m dd : Dt} {a1 a2 a3 v4 v5 : Int} {r : Int} {x : Int} (F : Fx w G cX11_lies RX11 7 (some .int) { frames := 1, cells := 0, slots := 0, locals := 25 }) (hX : WF dd m) (hp : PB m 1545 11) (h : fX11_lies_6 d a1 a2 a3 v4 v5 = some x) (K : (fun q => q = r) x) : V w l WF G (QM w G WF (some (mI r)) d m 0 0) d m 0 0 6 [mA 1545, mI a1, mI a2, mI a3, mI v4, mI v5, mU] [] := by
  unfold fX11_lies_6 at h
  exact loop_ok (P := fX11_lies_6P w l G (QM w G WF (some (mI r)) d m 0 0) m d a1 a2 a3) (fun s x hx h1 h2 => fX11_lies_6f_ok F hX hp hx (by
    cases x with
    | inl s' => exact h1 s' rfl
    | inr z => cases h2 z rfl; exact K)) h
theorem vm_X11_lies {w : Wd} {l : Launch} {d m : Dt} {a1 a2 a3 : Int} {r : Int} (hp : PB m 1545 11) (h : fX11_lies d a1 a2 a3 = some r) : VM w l WF yX11_lies cX11_lies 7 (some .int) 1 25 0 0 d m [mA 1545, mI a1, mI a2, mI a3] (some (mI r)) d m := by
  obtain ⟨x, h, K⟩ : ∃ x, fX11_lies d a1 a2 a3 = some x ∧ x = r := ⟨_, h, rfl⟩
  refine VM.of (L := [mA 1545, mI a1, mI a2, mI a3, mU, mU, mU]) (by decide +kernel) rfl (Nat.le_of_ble_eq_true rfl) fun G F _ => v_fact fun _ hX _ _ => ?_
  unfold fX11_lies at h
  refine v_iconst F dX11_lies_0 ⟨by decide, by decide⟩ ?_
  refine v_istore F dX11_lies_1 (Nat.le_of_ble_eq_true rfl) (L' := [mA 1545, mI a1, mI a2, mI a3, mI (-1), mU, mU]) rfl ?_
  refine v_iconst F dX11_lies_3 ⟨by decide, by decide⟩ ?_
  refine v_istore F dX11_lies_4 (Nat.le_of_ble_eq_true rfl) (L' := [mA 1545, mI a1, mI a2, mI a3, mI (-1), mI 0, mU]) rfl ?_
  exact fX11_lies_6_ok F hX hp h K
theorem vm_X11_areaOf {w : Wd} {l : Launch} {d m : Dt} {a1 a2 a3 : Int} {r : Int} (hp : PB m 1545 11) (h : fX11_areaOf d a1 a2 a3 = some r) : VM w l WF yX11_areaOf cX11_areaOf 4 (some .int) 2 51 0 0 d m [mA 1545, mI a1, mI a2, mI a3] (some (mI r)) d m := by
  obtain ⟨x, h, K⟩ : ∃ x, fX11_areaOf d a1 a2 a3 = some x ∧ x = r := ⟨_, h, rfl⟩
  refine VM.of (L := [mA 1545, mI a1, mI a2, mI a3]) (by decide +kernel) rfl (Nat.le_of_ble_eq_true rfl) fun G F _ => v_fact fun _ hX _ _ => ?_
  unfold fX11_areaOf at h
  refine v_iload_n F dX11_areaOf_0 rfl rfl ?_
  refine v_i2l F dX11_areaOf_1 ?_
  refine v_lconst0 F dX11_areaOf_2 ?_
  refine v_ldc2 (n := 2) F dX11_areaOf_3 q2449 rfl ⟨by decide, by decide⟩ ?_
  refine v_callSv F dX11_areaOf_6 cs_X11_13 rfl (vm_X11_in) rfl (rOk.of rfl) ?_
  refine v_if_eq F dX11_areaOf_9 rfl (fun hq1 => ?_) (fun hq1 => ?_)
  · rw [if_pos hq1] at h
    refine v_bipush F dX11_areaOf_31 rfl ⟨by decide, by decide⟩ ?_
    refine v_goto F dX11_areaOf_33 rfl ?_
    cases h
    cases (show _ = r from K)
    exact v_iret F dX11_areaOf_43
  · rw [if_neg hq1] at h
    refine v_iload_n F dX11_areaOf_12 rfl rfl ?_
    refine v_i2l F dX11_areaOf_13 ?_
    refine v_lconst0 F dX11_areaOf_14 ?_
    refine v_ldc2 (n := 999) F dX11_areaOf_15 q2454 rfl ⟨by decide, by decide⟩ ?_
    refine v_callSv F dX11_areaOf_18 cs_X11_13 rfl (vm_X11_in) rfl (rOk.of rfl) ?_
    refine v_if_eq F dX11_areaOf_21 rfl (fun hq2 => ?_) (fun hq2 => ?_)
    · rw [if_pos hq2] at h
      refine v_bipush F dX11_areaOf_31 rfl ⟨by decide, by decide⟩ ?_
      refine v_goto F dX11_areaOf_33 rfl ?_
      cases h
      cases (show _ = r from K)
      exact v_iret F dX11_areaOf_43
    · rw [if_neg hq2] at h
      refine v_iload_n F dX11_areaOf_24 rfl rfl ?_
      refine v_callSv F dX11_areaOf_25 cs_X11_70 rfl (vm_X11_isDay) rfl (rOk.of rfl) ?_
      refine v_if_ne F dX11_areaOf_28 rfl (fun hq3 => ?_) (fun hq3 => ?_)
      · rw [if_neg hq3] at h
        refine v_aload_n F dX11_areaOf_36 rfl rfl ?_
        refine v_iload_n F dX11_areaOf_37 rfl rfl ?_
        refine v_iload_n F dX11_areaOf_38 rfl rfl ?_
        refine v_iload_n F dX11_areaOf_39 rfl rfl ?_
        obtain ⟨x4, hc5, h⟩ := b1_some h
        refine v_callVv (c := 11) F dX11_areaOf_40 cv_X11_89 rfl (PB.ob hp hX (Nat.le_of_ble_eq_true rfl)) (Nat.le_of_ble_eq_true rfl) rfl (vm_X11_lies hp hc5) rfl (rOk.of rfl) ?_
        cases h
        cases (show _ = r from K)
        exact v_iret F dX11_areaOf_43
      · rw [if_pos hq3] at h
        refine v_bipush F dX11_areaOf_31 rfl ⟨by decide, by decide⟩ ?_
        refine v_goto F dX11_areaOf_33 rfl ?_
        cases h
        cases (show _ = r from K)
        exact v_iret F dX11_areaOf_43
theorem vm_X12_isLong {w : Wd} {l : Launch} {X : Dt → Dt → Prop} {d m : Dt} {a1 : Int} : VM w l X yX12_isLong cX12_isLong 1 (some .boolean) 0 0 0 0 d m [mI a1] (some (mI (fX12_isLong a1))) d m := by
  obtain ⟨r, hr⟩ : ∃ r, fX12_isLong a1 = r := ⟨_, rfl⟩
  rw [hr]
  obtain ⟨x, h, K⟩ : ∃ x, fX12_isLong a1 = x ∧ x = r := ⟨_, hr, rfl⟩
  refine VM.of (L := [mI a1]) (by decide +kernel) rfl (Nat.le_of_ble_eq_true rfl) fun G F _ => ?_
  unfold fX12_isLong at h
  refine v_iload_n F dX12_isLong_0 rfl rfl ?_
  refine v_iconst F dX12_isLong_1 ⟨by decide, by decide⟩ ?_
  refine v_irem F dX12_isLong_2 (by decide) ?_
  refine v_if_ne F dX12_isLong_3 rfl (fun hq1 => ?_) (fun hq1 => ?_)
  · rw [if_neg hq1] at h
    refine v_iconst F dX12_isLong_17 ⟨by decide, by decide⟩ ?_
    subst h
    cases (show _ = r from K)
    exact v_zret F (Or.inl rfl) dX12_isLong_18
  · rw [if_pos hq1] at h
    refine v_iload_n F dX12_isLong_6 rfl rfl ?_
    refine v_sipush F dX12_isLong_7 rfl ⟨by decide, by decide⟩ ?_
    refine v_icmp_eq F dX12_isLong_10 rfl (fun hq2 => ?_) (fun hq2 => ?_)
    · rw [if_pos hq2] at h
      refine v_iconst F dX12_isLong_17 ⟨by decide, by decide⟩ ?_
      subst h
      cases (show _ = r from K)
      exact v_zret F (Or.inl rfl) dX12_isLong_18
    · rw [if_neg hq2] at h
      refine v_iconst F dX12_isLong_13 ⟨by decide, by decide⟩ ?_
      refine v_goto F dX12_isLong_14 rfl ?_
      subst h
      cases (show _ = r from K)
      exact v_zret F (Or.inr rfl) dX12_isLong_18
theorem fX12_isLong_z {a1 : Int} : fX12_isLong a1 = 0 ∨ fX12_isLong a1 = 1 := by
  unfold fX12_isLong
  repeat' (first | exact Or.inl rfl | exact Or.inr rfl | split | assumption)
theorem vm_X12_lengthOf {w : Wd} {l : Launch} {X : Dt → Dt → Prop} {d m : Dt} {a1 a2 : Int} : VM w l X yX12_lengthOf cX12_lengthOf 2 (some .int) 1 20 0 0 d m [mI a1, mI a2] (some (mI (fX12_lengthOf a1 a2))) d m := by
  obtain ⟨r, hr⟩ : ∃ r, fX12_lengthOf a1 a2 = r := ⟨_, rfl⟩
  rw [hr]
  obtain ⟨x, h, K⟩ : ∃ x, fX12_lengthOf a1 a2 = x ∧ x = r := ⟨_, hr, rfl⟩
  refine VM.of (L := [mI a1, mI a2]) (by decide +kernel) rfl (Nat.le_of_ble_eq_true rfl) fun G F _ => ?_
  unfold fX12_lengthOf at h
  refine v_iload_n F dX12_lengthOf_0 rfl rfl ?_
  refine v_iconst F dX12_lengthOf_1 ⟨by decide, by decide⟩ ?_
  refine v_icmp_ne F dX12_lengthOf_2 rfl (fun hq1 => ?_) (fun hq1 => ?_)
  · rw [if_neg hq1] at h
    refine v_iload_n F dX12_lengthOf_22 rfl rfl ?_
    refine v_iconst F dX12_lengthOf_23 ⟨by decide, by decide⟩ ?_
    refine v_icmp_eq F dX12_lengthOf_24 rfl (fun hq2 => ?_) (fun hq2 => ?_)
    · rw [if_pos hq2] at h
      refine v_bipush F dX12_lengthOf_45 rfl ⟨by decide, by decide⟩ ?_
      refine v_goto F dX12_lengthOf_47 rfl ?_
      subst h
      cases (show _ = r from K)
      exact v_iret F dX12_lengthOf_52
    · rw [if_neg hq2] at h
      refine v_iload_n F dX12_lengthOf_27 rfl rfl ?_
      refine v_bipush F dX12_lengthOf_28 rfl ⟨by decide, by decide⟩ ?_
      refine v_icmp_eq F dX12_lengthOf_30 rfl (fun hq3 => ?_) (fun hq3 => ?_)
      · rw [if_pos hq3] at h
        refine v_bipush F dX12_lengthOf_45 rfl ⟨by decide, by decide⟩ ?_
        refine v_goto F dX12_lengthOf_47 rfl ?_
        subst h
        cases (show _ = r from K)
        exact v_iret F dX12_lengthOf_52
      · rw [if_neg hq3] at h
        refine v_iload_n F dX12_lengthOf_33 rfl rfl ?_
        refine v_bipush F dX12_lengthOf_34 rfl ⟨by decide, by decide⟩ ?_
        refine v_icmp_eq F dX12_lengthOf_36 rfl (fun hq4 => ?_) (fun hq4 => ?_)
        · rw [if_pos hq4] at h
          refine v_bipush F dX12_lengthOf_45 rfl ⟨by decide, by decide⟩ ?_
          refine v_goto F dX12_lengthOf_47 rfl ?_
          subst h
          cases (show _ = r from K)
          exact v_iret F dX12_lengthOf_52
        · rw [if_neg hq4] at h
          refine v_iload_n F dX12_lengthOf_39 rfl rfl ?_
          refine v_bipush F dX12_lengthOf_40 rfl ⟨by decide, by decide⟩ ?_
          refine v_icmp_ne F dX12_lengthOf_42 rfl (fun hq5 => ?_) (fun hq5 => ?_)
          · rw [if_neg hq5] at h
            refine v_bipush F dX12_lengthOf_50 rfl ⟨by decide, by decide⟩ ?_
            subst h
            cases (show _ = r from K)
            exact v_iret F dX12_lengthOf_52
          · rw [if_pos hq5] at h
            refine v_bipush F dX12_lengthOf_45 rfl ⟨by decide, by decide⟩ ?_
            refine v_goto F dX12_lengthOf_47 rfl ?_
            subst h
            cases (show _ = r from K)
            exact v_iret F dX12_lengthOf_52
  · rw [if_pos hq1] at h
    refine v_iload_n F dX12_lengthOf_5 rfl rfl ?_
    refine v_callSv F dX12_lengthOf_6 cs_X12_9 rfl (vm_X12_isLong) rfl (rOk.of rfl) ?_
    refine v_if_eq F dX12_lengthOf_9 rfl (fun hq6 => ?_) (fun hq6 => ?_)
    · rw [if_pos hq6] at h
      refine v_bipush F dX12_lengthOf_17 rfl ⟨by decide, by decide⟩ ?_
      refine v_goto F dX12_lengthOf_19 rfl ?_
      subst h
      cases (show _ = r from K)
      exact v_iret F dX12_lengthOf_52
    · rw [if_neg hq6] at h
      refine v_bipush F dX12_lengthOf_12 rfl ⟨by decide, by decide⟩ ?_
      refine v_goto F dX12_lengthOf_14 rfl ?_
      subst h
      cases (show _ = r from K)
      exact v_iret F dX12_lengthOf_52
theorem vm_X12_is {w : Wd} {l : Launch} {X : Dt → Dt → Prop} {d m : Dt} {a1 a2 a3 a4 : Int} : VM w l X yX12_is cX12_is 4 (some .boolean) 2 41 0 0 d m [mI a1, mI a2, mI a3, mI a4] (some (mI (fX12_is a1 a2 a3 a4))) d m := by
  obtain ⟨r, hr⟩ : ∃ r, fX12_is a1 a2 a3 a4 = r := ⟨_, rfl⟩
  rw [hr]
  obtain ⟨x, h, K⟩ : ∃ x, fX12_is a1 a2 a3 a4 = x ∧ x = r := ⟨_, hr, rfl⟩
  refine VM.of (L := [mI a1, mI a2, mI a3, mI a4]) (by decide +kernel) rfl (Nat.le_of_ble_eq_true rfl) fun G F _ => ?_
  unfold fX12_is at h
  refine v_iload_n F dX12_is_0 rfl rfl ?_
  refine v_iload_n F dX12_is_1 rfl rfl ?_
  refine v_sipush F dX12_is_2 rfl ⟨by decide, by decide⟩ ?_
  refine v_callSv F dX12_is_5 cs_X12_15 rfl (vm_X0_within) rfl (rOk.of rfl) ?_
  refine v_if_eq F dX12_is_8 rfl (fun hq1 => ?_) (fun hq1 => ?_)
  · rw [if_pos hq1] at h
    refine v_iconst F dX12_is_38 ⟨by decide, by decide⟩ ?_
    subst h
    cases (show _ = r from K)
    exact v_zret F (Or.inl rfl) dX12_is_39
  · rw [if_neg hq1] at h
    refine v_iload_n F dX12_is_11 rfl rfl ?_
    refine v_iconst F dX12_is_12 ⟨by decide, by decide⟩ ?_
    refine v_bipush F dX12_is_13 rfl ⟨by decide, by decide⟩ ?_
    refine v_callSv F dX12_is_15 cs_X12_15 rfl (vm_X0_within) rfl (rOk.of rfl) ?_
    refine v_if_eq F dX12_is_18 rfl (fun hq2 => ?_) (fun hq2 => ?_)
    · rw [if_pos hq2] at h
      refine v_iconst F dX12_is_38 ⟨by decide, by decide⟩ ?_
      subst h
      cases (show _ = r from K)
      exact v_zret F (Or.inl rfl) dX12_is_39
    · rw [if_neg hq2] at h
      refine v_iload_n F dX12_is_21 rfl rfl ?_
      refine v_iconst F dX12_is_22 ⟨by decide, by decide⟩ ?_
      refine v_iload_n F dX12_is_23 rfl rfl ?_
      refine v_iload_n F dX12_is_24 rfl rfl ?_
      refine v_callSv F dX12_is_25 cs_X12_19 rfl (vm_X12_lengthOf) rfl (rOk.of rfl) ?_
      refine v_callSv F dX12_is_28 cs_X12_15 rfl (vm_X0_within) rfl (rOk.of rfl) ?_
      refine v_if_eq F dX12_is_31 rfl (fun hq3 => ?_) (fun hq3 => ?_)
      · rw [if_pos hq3] at h
        refine v_iconst F dX12_is_38 ⟨by decide, by decide⟩ ?_
        subst h
        cases (show _ = r from K)
        exact v_zret F (Or.inl rfl) dX12_is_39
      · rw [if_neg hq3] at h
        refine v_iconst F dX12_is_34 ⟨by decide, by decide⟩ ?_
        refine v_goto F dX12_is_35 rfl ?_
        subst h
        cases (show _ = r from K)
        exact v_zret F (Or.inr rfl) dX12_is_39
theorem fX12_is_z {a1 a2 a3 a4 : Int} : fX12_is a1 a2 a3 a4 = 0 ∨ fX12_is a1 a2 a3 a4 = 1 := by
  unfold fX12_is
  repeat' (first | exact Or.inl rfl | exact Or.inr rfl | split | assumption | exact fX0_within_z)
def fX12_of_7P (w : Wd) (l : Launch) (G : Cx) (Q : State → Prop) (d : Dt) (m : Dt) (a1 a2 a3 : Int) (s : Int × Int) : Prop := V w l WF G Q d m 0 0 7 [mI a1, mI a2, mU, mI (s.1), mI (s.2)] []
theorem fX12_of_57_ok {w : Wd} {l : Launch} {G : Cx} {d m dd : Dt} {a1 a2 a3 s0 s1 : Int} {r : Int} {x : Int} (F : Fx w G cX12_of RX12 5 (some .int) { frames := 2, cells := 0, slots := 0, locals := 41 }) (hX : WF dd m) (h : fX12_of_57 a1 a2 a3 s0 s1 = some x) (K : (fun q => q = r) x) : V w l WF G (QM w G WF (some (mI r)) d m 0 0) d m 0 0 57 [mU, mU, mU, mU, mU] [mI s1, mI s0] := by
  unfold fX12_of_57 at h
  refine v_iadd F dX12_of_57 ?_
  refine v_ldc (n := (-36524)) F dX12_of_58 q1189 rfl ⟨by decide, by decide⟩ ?_
  refine v_iadd F dX12_of_60 ?_
  cases h
  cases (show _ = r from K)
  exact v_iret F dX12_of_61
theorem fX12_of_7f_ok {w : Wd} {l : Launch} {G : Cx} {d m dd : Dt} {a1 a2 a3 : Int} {r : Int} {s : Int × Int} {x : ((Int × Int) ⊕ Int)} (F : Fx w G cX12_of RX12 5 (some .int) { frames := 2, cells := 0, slots := 0, locals := 41 }) (hX : WF dd m) (h : fX12_of_7f a1 a2 a3 s = some x) (K : (Sum.elim (fX12_of_7P w l G (QM w G WF (some (mI r)) d m 0 0) d m a1 a2 a3) (fun q => q = r)) x) : V w l WF G (QM w G WF (some (mI r)) d m 0 0) d m 0 0 7 [mI a1, mI a2, mU, mI (s.1), mI (s.2)] [] := by
  obtain ⟨v3, v4⟩ := s
  unfold fX12_of_7f at h
  dsimp only at h
  refine v_iload F dX12_of_7 rfl ?_
  refine v_iload_n F dX12_of_9 rfl rfl ?_
  refine v_icmp_ge F dX12_of_10 rfl (fun hq2 => ?_) (fun hq2 => ?_)
  · rw [if_pos hq2] at h
    obtain ⟨z, hu, ez⟩ := up_some h
    clear h
    subst ez
    have h := hu
    clear hu
    refine v_iload_n F dX12_of_28 rfl rfl ?_
    refine v_sipush F dX12_of_29 rfl ⟨by decide, by decide⟩ ?_
    refine v_iload_n F dX12_of_32 rfl rfl ?_
    refine v_sipush F dX12_of_33 rfl ⟨by decide, by decide⟩ ?_
    refine v_isub F dX12_of_36 ?_
    refine v_imul F dX12_of_37 ?_
    refine v_iadd F dX12_of_38 ?_
    refine v_iload_n F dX12_of_39 rfl rfl ?_
    refine v_sipush F dX12_of_40 rfl ⟨by decide, by decide⟩ ?_
    refine v_icmp_le F dX12_of_43 rfl (fun hq3 => ?_) (fun hq3 => ?_)
    · rw [if_pos hq3] at h
      refine v_iconst F dX12_of_56 ⟨by decide, by decide⟩ ?_
      refine v_fgt (L' := [mU, mU, mU, mU, mU]) ⟨Or.inr rfl, Or.inr rfl, Or.inl rfl, Or.inr rfl, Or.inr rfl, trivial⟩ ?_
      exact fX12_of_57_ok F hX h K
    · rw [if_neg hq3] at h
      refine v_iload_n F dX12_of_46 rfl rfl ?_
      refine v_sipush F dX12_of_47 rfl ⟨by decide, by decide⟩ ?_
      refine v_isub F dX12_of_50 ?_
      refine v_iconst F dX12_of_51 ⟨by decide, by decide⟩ ?_
      refine v_idiv F dX12_of_52 (by decide) ?_
      refine v_goto F dX12_of_53 rfl ?_
      refine v_fgt (L' := [mU, mU, mU, mU, mU]) ⟨Or.inr rfl, Or.inr rfl, Or.inl rfl, Or.inr rfl, Or.inr rfl, trivial⟩ ?_
      exact fX12_of_57_ok F hX h K
  · rw [if_neg hq2] at h
    refine v_iload_n F dX12_of_13 rfl rfl ?_
    refine v_iload_n F dX12_of_14 rfl rfl ?_
    refine v_iload F dX12_of_15 rfl ?_
    refine v_callSv F dX12_of_17 cs_X12_19 rfl (vm_X12_lengthOf) rfl (rOk.of rfl) ?_
    refine v_iadd F dX12_of_20 ?_
    obtain ⟨x4, ex4, h⟩ := lv_some h
    refine v_nI ex4 ?_
    refine v_istore_n F dX12_of_21 rfl (Nat.le_of_ble_eq_true rfl) (L' := [mI a1, mI a2, mU, mI x4, mI v4]) rfl ?_
    obtain ⟨x5, ex5, h⟩ := lv_some h
    refine v_iincN F dX12_of_22 (Nat.le_of_ble_eq_true rfl) rfl ex5 (L' := [mI a1, mI a2, mU, mI x4, mI x5]) rfl ?_
    refine v_goto F dX12_of_25 rfl ?_
    cases h
    exact K
theorem fX12_of_7_ok {w : Wd} {l : Launch} {G : Cx} {d m dd : Dt} {a1 a2 a3 v3 v4 : Int} {r : Int} {x : Int} (F : Fx w G cX12_of RX12 5 (some .int) { frames := 2, cells := 0, slots := 0, locals := 41 }) (hX : WF dd m) (h : fX12_of_7 a1 a2 a3 v3 v4 = some x) (K : (fun q => q = r) x) : V w l WF G (QM w G WF (some (mI r)) d m 0 0) d m 0 0 7 [mI a1, mI a2, mU, mI v3, mI v4] [] := by
  unfold fX12_of_7 at h
  exact loop_ok (P := fX12_of_7P w l G (QM w G WF (some (mI r)) d m 0 0) d m a1 a2 a3) (fun s x hx h1 h2 => fX12_of_7f_ok F hX hx (by
    cases x with
    | inl s' => exact h1 s' rfl
    | inr z => cases h2 z rfl; exact K)) h
theorem vm_X12_of {w : Wd} {l : Launch} {d m : Dt} {a1 a2 a3 : Int} {r : Int} (h : fX12_of a1 a2 a3 = some r) : VM w l WF yX12_of cX12_of 5 (some .int) 2 41 0 0 d m [mI a1, mI a2, mI a3] (some (mI r)) d m := by
  obtain ⟨x, h, K⟩ : ∃ x, fX12_of a1 a2 a3 = some x ∧ x = r := ⟨_, h, rfl⟩
  refine VM.of (L := [mI a1, mI a2, mI a3, mU, mU]) (by decide +kernel) rfl (Nat.le_of_ble_eq_true rfl) fun G F _ => v_fact fun _ hX _ _ => ?_
  unfold fX12_of at h
  refine v_iload_n F dX12_of_0 rfl rfl ?_
  refine v_iconst F dX12_of_1 ⟨by decide, by decide⟩ ?_
  refine v_isub F dX12_of_2 ?_
  obtain ⟨x1, ex1, h⟩ := lv_some h
  refine v_nI ex1 ?_
  refine v_istore_n F dX12_of_3 rfl (Nat.le_of_ble_eq_true rfl) (L' := [mI a1, mI a2, mI a3, mI x1, mU]) rfl ?_
  refine v_iconst F dX12_of_4 ⟨by decide, by decide⟩ ?_
  refine v_istore F dX12_of_5 (Nat.le_of_ble_eq_true rfl) (L' := [mI a1, mI a2, mI a3, mI x1, mI 1]) rfl ?_
  refine v_fgt (L' := [mI a1, mI a2, mU, mI x1, mI 1]) ⟨Or.inl rfl, Or.inl rfl, Or.inr rfl, Or.inl rfl, Or.inl rfl, trivial⟩ ?_
  exact fX12_of_7_ok F hX h K
theorem vm_X13_init {w : Wd} {l : Launch} {d m : Dt} {o a1 a2 a3 b : Int} (hm : m 0 0 = o + 1) (obm : OB m o 12) (um : m o 3 = 0) (hb : fX12_of a1 a2 a3 = some b) : VM w l WF yX13_init cX13_init 4 none 3 65 6 68 d m [mA o, mI a1, mI a2, mI a3] none (nwX13 o a1 a2 a3 b d) (na_X13 m) := by
  have ho := obm.1
  refine VM.of (L := [mA o, mI a1, mI a2, mI a3]) (by decide +kernel) rfl (Nat.le_of_ble_eq_true rfl) fun G F hnm => ?_
  refine v_aload_n F dX13_init_0 rfl rfl ?_
  refine v_objI F obm.1 dX13_init_1 q1221 q315 q316 (Nat.le_of_ble_eq_true rfl) (Nat.le_of_ble_eq_true rfl) (Nat.le_of_ble_eq_true rfl) ?_
  refine v_aload_n F dX13_init_4 rfl rfl ?_
  refine v_ldc (n := 36525) F dX13_init_5 q1222 rfl ⟨by decide, by decide⟩ ?_
  refine wpI F fz_X13_12 (fun h => by cases h) dX13_init_7 obm (Nat.le_of_ble_eq_true rfl) um rfl rfl ?_
  obtain ⟨d1, ed1⟩ : ∃ z, z = st d o 4 36525 := ⟨_, rfl⟩
  refine v_nD ed1 ?_
  refine v_aload_n F dX13_init_10 rfl rfl ?_
  refine v_bipush F dX13_init_11 rfl ⟨by decide, by decide⟩ ?_
  refine v_newp (t := 101) (ty := .int) F dX13_init_13 rfl rfl ⟨by decide, by decide⟩ rfl (fun _ _ => rfl) rfl q348 ⟨by decide, by decide⟩ (by decide) (Nat.le_of_ble_eq_true rfl) (ks' := 10) rfl (Nat.le_of_ble_eq_true rfl) hm ?_
  obtain ⟨m1, em1⟩ : ∃ z, z = alp m ((101 : Nat) : Int) 10 := ⟨_, rfl⟩
  refine v_nM em1 ?_
  have hm1 : m1 0 0 = o + 2 := by rw [em1]; exact alp_nx hm (by omega) (by omega)
  have obm1 : OB m1 o 12 := by rw [em1]; exact alp_ob obm (by omega)
  have um1 : m1 o 3 = 0 := by rw [em1, alp_old (by omega) (by omega)]; exact um
  have pm1 : m1 (o + 1) 3 = 101 := by rw [em1]; exact alp_3 hm
  refine wpA F fz_X13_18 (fun _ => hnm) dX13_init_15 obm1 (Nat.le_of_ble_eq_true rfl) um1 rfl rfl pm1 ?_
  obtain ⟨d2, ed2⟩ : ∃ z, z = st d1 o 6 (o + 1) := ⟨_, rfl⟩
  refine v_nD ed2 ?_
  refine v_aload_n F dX13_init_18 rfl rfl ?_
  refine v_bipush F dX13_init_19 rfl ⟨by decide, by decide⟩ ?_
  refine v_newp (t := 101) (ty := .int) F dX13_init_21 rfl rfl ⟨by decide, by decide⟩ rfl (fun _ _ => rfl) rfl q348 ⟨by decide, by decide⟩ (by decide) (Nat.le_of_ble_eq_true rfl) (ks' := 20) rfl (Nat.le_of_ble_eq_true rfl) hm1 ?_
  obtain ⟨m2, em2⟩ : ∃ z, z = alp m1 ((101 : Nat) : Int) 10 := ⟨_, rfl⟩
  refine v_nM em2 ?_
  have hm2 : m2 0 0 = o + 3 := by rw [em2]; exact alp_nx hm1 (by omega) (by omega)
  have obm2 : OB m2 o 12 := by rw [em2]; exact alp_ob obm1 (by omega)
  have um2 : m2 o 3 = 0 := by rw [em2, alp_old (by omega) (by omega)]; exact um1
  have pm2 : m2 (o + 2) 3 = 101 := by rw [em2]; exact alp_3 hm1
  refine wpA F fz_X13_22 (fun _ => hnm) dX13_init_23 obm2 (Nat.le_of_ble_eq_true rfl) um2 rfl rfl pm2 ?_
  obtain ⟨d3, ed3⟩ : ∃ z, z = st d2 o 7 (o + 2) := ⟨_, rfl⟩
  refine v_nD ed3 ?_
  refine v_aload_n F dX13_init_26 rfl rfl ?_
  refine v_bipush F dX13_init_27 rfl ⟨by decide, by decide⟩ ?_
  refine v_newp (t := 101) (ty := .int) F dX13_init_29 rfl rfl ⟨by decide, by decide⟩ rfl (fun _ _ => rfl) rfl q348 ⟨by decide, by decide⟩ (by decide) (Nat.le_of_ble_eq_true rfl) (ks' := 32) rfl (Nat.le_of_ble_eq_true rfl) hm2 ?_
  obtain ⟨m3, em3⟩ : ∃ z, z = alp m2 ((101 : Nat) : Int) 12 := ⟨_, rfl⟩
  refine v_nM em3 ?_
  have hm3 : m3 0 0 = o + 4 := by rw [em3]; exact alp_nx hm2 (by omega) (by omega)
  have obm3 : OB m3 o 12 := by rw [em3]; exact alp_ob obm2 (by omega)
  have um3 : m3 o 3 = 0 := by rw [em3, alp_old (by omega) (by omega)]; exact um2
  have pm3 : m3 (o + 3) 3 = 101 := by rw [em3]; exact alp_3 hm2
  refine wpA F fz_X13_25 (fun _ => hnm) dX13_init_31 obm3 (Nat.le_of_ble_eq_true rfl) um3 rfl rfl pm3 ?_
  obtain ⟨d4, ed4⟩ : ∃ z, z = st d3 o 9 (o + 3) := ⟨_, rfl⟩
  refine v_nD ed4 ?_
  refine v_aload_n F dX13_init_34 rfl rfl ?_
  refine v_bipush F dX13_init_35 rfl ⟨by decide, by decide⟩ ?_
  refine v_newp (t := 101) (ty := .int) F dX13_init_37 rfl rfl ⟨by decide, by decide⟩ rfl (fun _ _ => rfl) rfl q348 ⟨by decide, by decide⟩ (by decide) (Nat.le_of_ble_eq_true rfl) (ks' := 44) rfl (Nat.le_of_ble_eq_true rfl) hm3 ?_
  obtain ⟨m4, em4⟩ : ∃ z, z = alp m3 ((101 : Nat) : Int) 12 := ⟨_, rfl⟩
  refine v_nM em4 ?_
  have hm4 : m4 0 0 = o + 5 := by rw [em4]; exact alp_nx hm3 (by omega) (by omega)
  have obm4 : OB m4 o 12 := by rw [em4]; exact alp_ob obm3 (by omega)
  have um4 : m4 o 3 = 0 := by rw [em4, alp_old (by omega) (by omega)]; exact um3
  have pm4 : m4 (o + 4) 3 = 101 := by rw [em4]; exact alp_3 hm3
  refine wpA F fz_X13_28 (fun _ => hnm) dX13_init_39 obm4 (Nat.le_of_ble_eq_true rfl) um4 rfl rfl pm4 ?_
  obtain ⟨d5, ed5⟩ : ∃ z, z = st d4 o 10 (o + 4) := ⟨_, rfl⟩
  refine v_nD ed5 ?_
  refine v_aload_n F dX13_init_42 rfl rfl ?_
  refine v_bipush F dX13_init_43 rfl ⟨by decide, by decide⟩ ?_
  refine v_newp (t := 101) (ty := .int) F dX13_init_45 rfl rfl ⟨by decide, by decide⟩ rfl (fun _ _ => rfl) rfl q348 ⟨by decide, by decide⟩ (by decide) (Nat.le_of_ble_eq_true rfl) (ks' := 56) rfl (Nat.le_of_ble_eq_true rfl) hm4 ?_
  obtain ⟨m5, em5⟩ : ∃ z, z = alp m4 ((101 : Nat) : Int) 12 := ⟨_, rfl⟩
  refine v_nM em5 ?_
  have hm5 : m5 0 0 = o + 6 := by rw [em5]; exact alp_nx hm4 (by omega) (by omega)
  have obm5 : OB m5 o 12 := by rw [em5]; exact alp_ob obm4 (by omega)
  have um5 : m5 o 3 = 0 := by rw [em5, alp_old (by omega) (by omega)]; exact um4
  have pm5 : m5 (o + 5) 3 = 101 := by rw [em5]; exact alp_3 hm4
  refine wpA F fz_X13_31 (fun _ => hnm) dX13_init_47 obm5 (Nat.le_of_ble_eq_true rfl) um5 rfl rfl pm5 ?_
  obtain ⟨d6, ed6⟩ : ∃ z, z = st d5 o 11 (o + 5) := ⟨_, rfl⟩
  refine v_nD ed6 ?_
  refine v_aload_n F dX13_init_50 rfl rfl ?_
  refine v_bipush F dX13_init_51 rfl ⟨by decide, by decide⟩ ?_
  refine v_newp (t := 101) (ty := .int) F dX13_init_53 rfl rfl ⟨by decide, by decide⟩ rfl (fun _ _ => rfl) rfl q348 ⟨by decide, by decide⟩ (by decide) (Nat.le_of_ble_eq_true rfl) (ks' := 68) rfl (Nat.le_of_ble_eq_true rfl) hm5 ?_
  obtain ⟨m6, em6⟩ : ∃ z, z = alp m5 ((101 : Nat) : Int) 12 := ⟨_, rfl⟩
  refine v_nM em6 ?_
  have hm6 : m6 0 0 = o + 7 := by rw [em6]; exact alp_nx hm5 (by omega) (by omega)
  have obm6 : OB m6 o 12 := by rw [em6]; exact alp_ob obm5 (by omega)
  have um6 : m6 o 3 = 0 := by rw [em6, alp_old (by omega) (by omega)]; exact um5
  have pm6 : m6 (o + 6) 3 = 101 := by rw [em6]; exact alp_3 hm5
  refine wpA F fz_X13_34 (fun _ => hnm) dX13_init_55 obm6 (Nat.le_of_ble_eq_true rfl) um6 rfl rfl pm6 ?_
  obtain ⟨d7, ed7⟩ : ∃ z, z = st d6 o 12 (o + 6) := ⟨_, rfl⟩
  refine v_nD ed7 ?_
  refine v_aload_n F dX13_init_58 rfl rfl ?_
  refine v_iload_n F dX13_init_59 rfl rfl ?_
  refine wpI F fz_X13_37 (fun _ => hnm) dX13_init_60 obm6 (Nat.le_of_ble_eq_true rfl) um6 rfl rfl ?_
  obtain ⟨d8, ed8⟩ : ∃ z, z = st d7 o 0 a1 := ⟨_, rfl⟩
  refine v_nD ed8 ?_
  refine v_aload_n F dX13_init_63 rfl rfl ?_
  refine v_iload_n F dX13_init_64 rfl rfl ?_
  refine wpI F fz_X13_40 (fun _ => hnm) dX13_init_65 obm6 (Nat.le_of_ble_eq_true rfl) um6 rfl rfl ?_
  obtain ⟨d9, ed9⟩ : ∃ z, z = st d8 o 1 a2 := ⟨_, rfl⟩
  refine v_nD ed9 ?_
  refine v_aload_n F dX13_init_68 rfl rfl ?_
  refine v_iload_n F dX13_init_69 rfl rfl ?_
  refine wpI F fz_X13_43 (fun _ => hnm) dX13_init_70 obm6 (Nat.le_of_ble_eq_true rfl) um6 rfl rfl ?_
  obtain ⟨d10, ed10⟩ : ∃ z, z = st d9 o 2 a3 := ⟨_, rfl⟩
  refine v_nD ed10 ?_
  refine v_aload_n F dX13_init_73 rfl rfl ?_
  refine v_iload_n F dX13_init_74 rfl rfl ?_
  refine v_iload_n F dX13_init_75 rfl rfl ?_
  refine v_iload_n F dX13_init_76 rfl rfl ?_
  refine v_callSv F dX13_init_77 cs_X13_46 rfl (vm_X12_of hb) rfl (rOk.of rfl) ?_
  refine wpI F fz_X13_50 (fun _ => hnm) dX13_init_80 obm6 (Nat.le_of_ble_eq_true rfl) um6 rfl rfl ?_
  obtain ⟨d11, ed11⟩ : ∃ z, z = st d10 o 3 b := ⟨_, rfl⟩
  refine v_nD ed11 ?_
  have ed : d11 = nwX13 o a1 a2 a3 b d := by rw [ed11, ed10, ed9, ed8, ed7, ed6, ed5, ed4, ed3, ed2, ed1]; rfl
  have em : m6 = na_X13 m := by rw [em6, em5, em4, em3, em2, em1]; rfl
  rw [← ed, ← em]
  exact v_vret F dX13_init_83
theorem vm_X0_person {w : Wd} {l : Launch} {d m : Dt} {a1 a2 a3 : Int} {d' m' : Dt} {r : Int} (hp : PB m 1 0) (h : fX0_person d m a1 a2 a3 = some (d', m', r)) : VM w l WF yX0_person cX0_person 4 (some .int) 4 115 7 82 d m [mA 1, mI a1, mI a2, mI a3] (some (mI r)) d' m' := by
  obtain ⟨x, h, K⟩ : ∃ x, fX0_person d m a1 a2 a3 = some x ∧ x = (d', m', r) := ⟨_, h, rfl⟩
  refine VM.of (L := [mA 1, mI a1, mI a2, mI a3]) (by decide +kernel) rfl (Nat.le_of_ble_eq_true rfl) fun G F _ => v_fact fun _ hX _ _ => ?_
  unfold fX0_person at h
  refine v_iload_n F dX0_person_0 rfl rfl ?_
  refine v_iload_n F dX0_person_1 rfl rfl ?_
  refine v_iload_n F dX0_person_2 rfl rfl ?_
  refine v_sipush F dX0_person_3 rfl ⟨by decide, by decide⟩ ?_
  refine v_callSv F dX0_person_6 cs_X0_203 rfl (vm_X12_is) rfl (rOk.of rfl) ?_
  refine v_if_ne F dX0_person_9 rfl (fun hq1 => ?_) (fun hq1 => ?_)
  · rw [if_neg hq1] at h
    refine v_aload_n F dX0_person_15 rfl rfl ?_
    refine gf_X0_200 F dX0_person_16 hp ?_
    refine v_bipush F dX0_person_19 rfl ⟨by decide, by decide⟩ ?_
    refine v_icmp_ne F dX0_person_21 rfl (fun hq2 => ?_) (fun hq2 => ?_)
    · rw [if_neg hq2] at h
      refine v_aload_n F dX0_person_27 rfl rfl ?_
      refine gf_X0_26 F dX0_person_28 hp (v := 9) rfl ?_
      refine v_aload_n F dX0_person_31 rfl rfl ?_
      refine gf_X0_200 F dX0_person_32 hp ?_
      obtain ⟨o3, eo3, h⟩ := lv_some h
      refine v_fact fun hv _ _ _ => ?_
      have hb := hv.1
      have hp0 := hp
      refine v_new (c := 12) (n := 14) F dX0_person_35 rfl (Nat.le_of_ble_eq_true rfl) rfl ok_X13 q349 q1217 q300 in_X13 tyX13_ok (fun hv hX => hX.grow hv) (Nat.le_of_ble_eq_true rfl) (Nat.le_of_ble_eq_true rfl) (a := o3) eo3.symm ?_
      obtain ⟨m1, em1⟩ : ∃ z, z = aln m ((12 : Nat) + 1 : Int) 0 := ⟨_, rfl⟩
      refine v_nM em1 ?_
      have hm1 : m1 0 0 = o3 + 1 := by rw [em1, aln_next hb, eo3]
      have ob1 : OB m1 o3 12 := ⟨by omega, by rw [em1, eo3]; exact aln_1⟩
      have u1 : m1 o3 3 = 0 := by rw [em1, eo3]; exact aln_3
      have hp : PB m1 1 0 := by rw [em1]; exact hp.alx hv
      refine v_fact fun _ hX _ _ => ?_
      refine v_dup_A F dX0_person_38 ?_
      refine v_iload_n F dX0_person_39 rfl rfl ?_
      refine v_iload_n F dX0_person_40 rfl rfl ?_
      refine v_iload_n F dX0_person_41 rfl rfl ?_
      obtain ⟨x6, hc7, h⟩ := b1_some h
      obtain ⟨d4, ed4, h⟩ := lm_some h
      obtain ⟨m5, em5, h⟩ := lm_some h
      have hi := (ns_X13 hm1 ob1.1).1
      refine v_initO (c := 12) F dX0_person_42 cn_X0_207 rfl ob1.1 (vm_X13_init hm1 ob1 u1 hc7) rfl (rOk.of rfl) (hi.ob ob1) (Nat.le_of_ble_eq_true rfl) (hi.u u1) hi.lt (own_X13 hm1 ob1.1) ?_
      refine v_nD ed4 ?_
      refine v_nM (show m5 = _ by rw [em5, em1, eo3]; rfl) ?_
      have obp : PB m5 o3 12 := by rw [em5, eo3]; exact st_eq _ _ _ _
      have hp : PB m5 1 0 := by rw [em5]; exact pb_X13 hv hp0
      refine v_fact fun _ hX _ _ => ?_
      obtain ⟨x8, ex8, h⟩ := lv_some h
      refine v_n2 ex8 ?_
      obtain ⟨hi9, h⟩ := ck_some h
      obtain ⟨d10, ed10, h⟩ := sd_some h
      refine v_aast (t := 109) (c := 12) F dX0_person_45 (ar_X0_4 hX hp) (Nat.le_of_ble_eq_true rfl) rfl rfl rfl rfl rfl obp (Nat.le_of_ble_eq_true rfl) hi9 ?_
      refine v_nD ed10 ?_
      refine v_aload_n F dX0_person_46 rfl rfl ?_
      refine v_dup_A F dX0_person_47 ?_
      refine gf_X0_200 F dX0_person_48 hp ?_
      refine v_iconst F dX0_person_51 ⟨by decide, by decide⟩ ?_
      refine v_iadd F dX0_person_52 ?_
      obtain ⟨d11, ed11, h⟩ := sd_some h
      refine pf_X0_200 F dX0_person_53 hp ?_
      refine v_nD ed11 ?_
      refine v_aload_n F dX0_person_56 rfl rfl ?_
      refine v_iconst F dX0_person_57 ⟨by decide, by decide⟩ ?_
      refine v_iload_n F dX0_person_58 rfl rfl ?_
      refine v_iload_n F dX0_person_59 rfl rfl ?_
      refine v_iload_n F dX0_person_60 rfl rfl ?_
      refine v_iconst F dX0_person_61 ⟨by decide, by decide⟩ ?_
      obtain ⟨d12, hc13, h⟩ := bd_some h
      refine v_callV0 (c := 0) F dX0_person_62 cv_X0_173 rfl (PB.ob hp hX (Nat.le_of_ble_eq_true rfl)) (Nat.le_of_ble_eq_true rfl) rfl (vm_X0_write hp hc13) rfl (rOk.of rfl) ?_
      refine v_aload_n F dX0_person_65 rfl rfl ?_
      refine gf_X0_200 F dX0_person_66 hp ?_
      refine v_iconst F dX0_person_69 ⟨by decide, by decide⟩ ?_
      refine v_isub F dX0_person_70 ?_
      cases h
      cases (show _ = (d', m', r) from K)
      exact v_iret F dX0_person_71
    · rw [if_pos hq2] at h
      refine v_bipush F dX0_person_24 rfl ⟨by decide, by decide⟩ ?_
      cases h
      cases (show _ = (d', m', r) from K)
      refine v_widen (mc := 7) (ms := 82) (Nat.zero_le _) (Nat.zero_le _) ?_
      exact v_iret F dX0_person_26
  · rw [if_pos hq1] at h
    refine v_bipush F dX0_person_12 rfl ⟨by decide, by decide⟩ ?_
    cases h
    cases (show _ = (d', m', r) from K)
    refine v_widen (mc := 7) (ms := 82) (Nat.zero_le _) (Nat.zero_le _) ?_
    exact v_iret F dX0_person_14
theorem fX11_yearDays_19_ok {w : Wd} {l : Launch} {X : Dt → Dt → Prop} {G : Cx} {d m : Dt} {a1 : Int} {r : Int} {x : Int} (F : Fx w G cX11_yearDays RX11 1 (some .int) { frames := 0, cells := 0, slots := 0, locals := 0 }) (h : fX11_yearDays_19 a1 = x) (K : (fun q => q = r) x) : V w l X G (QM w G X (some (mI r)) d m 0 0) d m 0 0 19 [mU] [] := by
  unfold fX11_yearDays_19 at h
  refine v_sipush F dX11_yearDays_19 rfl ⟨by decide, by decide⟩ ?_
  subst h
  cases (show _ = r from K)
  exact v_iret F dX11_yearDays_22
theorem vm_X11_yearDays {w : Wd} {l : Launch} {X : Dt → Dt → Prop} {d m : Dt} {a1 : Int} : VM w l X yX11_yearDays cX11_yearDays 1 (some .int) 0 0 0 0 d m [mI a1] (some (mI (fX11_yearDays a1))) d m := by
  obtain ⟨r, hr⟩ : ∃ r, fX11_yearDays a1 = r := ⟨_, rfl⟩
  rw [hr]
  obtain ⟨x, h, K⟩ : ∃ x, fX11_yearDays a1 = x ∧ x = r := ⟨_, hr, rfl⟩
  refine VM.of (L := [mI a1]) (by decide +kernel) rfl (Nat.le_of_ble_eq_true rfl) fun G F _ => ?_
  unfold fX11_yearDays at h
  refine v_iload_n F dX11_yearDays_0 rfl rfl ?_
  refine v_iconst F dX11_yearDays_1 ⟨by decide, by decide⟩ ?_
  refine v_irem F dX11_yearDays_2 (by decide) ?_
  refine v_if_ne F dX11_yearDays_3 rfl (fun hq1 => ?_) (fun hq1 => ?_)
  · rw [if_neg hq1] at h
    refine v_fgt (L' := [mU]) ⟨Or.inr rfl, trivial⟩ ?_
    exact fX11_yearDays_19_ok F h K
  · rw [if_pos hq1] at h
    refine v_iload_n F dX11_yearDays_6 rfl rfl ?_
    refine v_sipush F dX11_yearDays_7 rfl ⟨by decide, by decide⟩ ?_
    refine v_icmp_eq F dX11_yearDays_10 rfl (fun hq2 => ?_) (fun hq2 => ?_)
    · rw [if_pos hq2] at h
      refine v_fgt (L' := [mU]) ⟨Or.inr rfl, trivial⟩ ?_
      exact fX11_yearDays_19_ok F h K
    · rw [if_neg hq2] at h
      refine v_sipush F dX11_yearDays_13 rfl ⟨by decide, by decide⟩ ?_
      refine v_goto F dX11_yearDays_16 rfl ?_
      subst h
      cases (show _ = r from K)
      exact v_iret F dX11_yearDays_22
theorem vm_X11_monthDays {w : Wd} {l : Launch} {X : Dt → Dt → Prop} {d m : Dt} {a1 a2 : Int} : VM w l X yX11_monthDays cX11_monthDays 2 (some .int) 1 20 0 0 d m [mI a1, mI a2] (some (mI (fX11_monthDays a1 a2))) d m := by
  obtain ⟨r, hr⟩ : ∃ r, fX11_monthDays a1 a2 = r := ⟨_, rfl⟩
  rw [hr]
  obtain ⟨x, h, K⟩ : ∃ x, fX11_monthDays a1 a2 = x ∧ x = r := ⟨_, hr, rfl⟩
  refine VM.of (L := [mI a1, mI a2]) (by decide +kernel) rfl (Nat.le_of_ble_eq_true rfl) fun G F _ => ?_
  unfold fX11_monthDays at h
  refine v_iload_n F dX11_monthDays_0 rfl rfl ?_
  refine v_iconst F dX11_monthDays_1 ⟨by decide, by decide⟩ ?_
  refine v_icmp_ne F dX11_monthDays_2 rfl (fun hq1 => ?_) (fun hq1 => ?_)
  · rw [if_neg hq1] at h
    refine v_iload_n F dX11_monthDays_14 rfl rfl ?_
    refine v_iconst F dX11_monthDays_15 ⟨by decide, by decide⟩ ?_
    refine v_icmp_eq F dX11_monthDays_16 rfl (fun hq2 => ?_) (fun hq2 => ?_)
    · rw [if_pos hq2] at h
      refine v_bipush F dX11_monthDays_37 rfl ⟨by decide, by decide⟩ ?_
      refine v_goto F dX11_monthDays_39 rfl ?_
      subst h
      cases (show _ = r from K)
      exact v_iret F dX11_monthDays_44
    · rw [if_neg hq2] at h
      refine v_iload_n F dX11_monthDays_19 rfl rfl ?_
      refine v_bipush F dX11_monthDays_20 rfl ⟨by decide, by decide⟩ ?_
      refine v_icmp_eq F dX11_monthDays_22 rfl (fun hq3 => ?_) (fun hq3 => ?_)
      · rw [if_pos hq3] at h
        refine v_bipush F dX11_monthDays_37 rfl ⟨by decide, by decide⟩ ?_
        refine v_goto F dX11_monthDays_39 rfl ?_
        subst h
        cases (show _ = r from K)
        exact v_iret F dX11_monthDays_44
      · rw [if_neg hq3] at h
        refine v_iload_n F dX11_monthDays_25 rfl rfl ?_
        refine v_bipush F dX11_monthDays_26 rfl ⟨by decide, by decide⟩ ?_
        refine v_icmp_eq F dX11_monthDays_28 rfl (fun hq4 => ?_) (fun hq4 => ?_)
        · rw [if_pos hq4] at h
          refine v_bipush F dX11_monthDays_37 rfl ⟨by decide, by decide⟩ ?_
          refine v_goto F dX11_monthDays_39 rfl ?_
          subst h
          cases (show _ = r from K)
          exact v_iret F dX11_monthDays_44
        · rw [if_neg hq4] at h
          refine v_iload_n F dX11_monthDays_31 rfl rfl ?_
          refine v_bipush F dX11_monthDays_32 rfl ⟨by decide, by decide⟩ ?_
          refine v_icmp_ne F dX11_monthDays_34 rfl (fun hq5 => ?_) (fun hq5 => ?_)
          · rw [if_neg hq5] at h
            refine v_bipush F dX11_monthDays_42 rfl ⟨by decide, by decide⟩ ?_
            subst h
            cases (show _ = r from K)
            exact v_iret F dX11_monthDays_44
          · rw [if_pos hq5] at h
            refine v_bipush F dX11_monthDays_37 rfl ⟨by decide, by decide⟩ ?_
            refine v_goto F dX11_monthDays_39 rfl ?_
            subst h
            cases (show _ = r from K)
            exact v_iret F dX11_monthDays_44
  · rw [if_pos hq1] at h
    refine v_iload_n F dX11_monthDays_5 rfl rfl ?_
    refine v_callSv F dX11_monthDays_6 cs_X11_28 rfl (vm_X11_yearDays) rfl (rOk.of rfl) ?_
    refine v_sipush F dX11_monthDays_9 rfl ⟨by decide, by decide⟩ ?_
    refine v_isub F dX11_monthDays_12 ?_
    subst h
    cases (show _ = r from K)
    exact v_iret F dX11_monthDays_13
theorem fX11_dayOf_41_ok {w : Wd} {l : Launch} {G : Cx} {d m dd : Dt} {a1 a2 a3 : Int} {r : Int} {x : Int} (F : Fx w G cX11_dayOf RX11 5 (some .int) { frames := 2, cells := 0, slots := 0, locals := 41 }) (hX : WF dd m) (h : fX11_dayOf_41 a1 a2 a3 = some x) (K : (fun q => q = r) x) : V w l WF G (QM w G WF (some (mI r)) d m 0 0) d m 0 0 41 [mU, mU, mU, mU, mU] [] := by
  unfold fX11_dayOf_41 at h
  refine v_ldc (n := (-2147483648)) F dX11_dayOf_41 q2483 rfl ⟨by decide, by decide⟩ ?_
  cases h
  cases (show _ = r from K)
  exact v_iret F dX11_dayOf_43
def fX11_dayOf_53P (w : Wd) (l : Launch) (G : Cx) (Q : State → Prop) (d : Dt) (m : Dt) (a1 a2 a3 : Int) (s : Int × Int) : Prop := V w l WF G Q d m 0 0 53 [mI a1, mI a2, mU, mI (s.1), mI (s.2)] []
def fX11_dayOf_76P (w : Wd) (l : Launch) (G : Cx) (Q : State → Prop) (d : Dt) (m : Dt) (a1 a2 a3 : Int) (s : Int × Int) : Prop := V w l WF G Q d m 0 0 76 [mI a1, mI a2, mU, mI (s.1), mI (s.2)] []
def fX11_dayOf_101P (w : Wd) (l : Launch) (G : Cx) (Q : State → Prop) (d : Dt) (m : Dt) (a1 a2 a3 : Int) (s : Int × Int) : Prop := V w l WF G Q d m 0 0 101 [mI a1, mI a2, mU, mI (s.1), mI (s.2)] []
theorem fX11_dayOf_101f_ok {w : Wd} {l : Launch} {G : Cx} {d m dd : Dt} {a1 a2 a3 : Int} {r : Int} {s : Int × Int} {x : ((Int × Int) ⊕ Int)} (F : Fx w G cX11_dayOf RX11 5 (some .int) { frames := 2, cells := 0, slots := 0, locals := 41 }) (hX : WF dd m) (h : fX11_dayOf_101f a1 a2 a3 s = some x) (K : (Sum.elim (fX11_dayOf_101P w l G (QM w G WF (some (mI r)) d m 0 0) d m a1 a2 a3) (fun q => q = r)) x) : V w l WF G (QM w G WF (some (mI r)) d m 0 0) d m 0 0 101 [mI a1, mI a2, mU, mI (s.1), mI (s.2)] [] := by
  obtain ⟨v3, v4⟩ := s
  unfold fX11_dayOf_101f at h
  dsimp only at h
  refine v_iload F dX11_dayOf_101 rfl ?_
  refine v_iload_n F dX11_dayOf_103 rfl rfl ?_
  refine v_icmp_ge F dX11_dayOf_104 rfl (fun hq7 => ?_) (fun hq7 => ?_)
  · rw [if_pos hq7] at h
    obtain ⟨z, hu, ez⟩ := up_some h
    clear h
    subst ez
    have h := hu
    clear hu
    refine v_iload_n F dX11_dayOf_122 rfl rfl ?_
    cases h
    cases (show _ = r from K)
    exact v_iret F dX11_dayOf_123
  · rw [if_neg hq7] at h
    refine v_iload_n F dX11_dayOf_107 rfl rfl ?_
    refine v_iload_n F dX11_dayOf_108 rfl rfl ?_
    refine v_iload F dX11_dayOf_109 rfl ?_
    refine v_callSv F dX11_dayOf_111 cs_X11_38 rfl (vm_X11_monthDays) rfl (rOk.of rfl) ?_
    refine v_iadd F dX11_dayOf_114 ?_
    obtain ⟨x8, ex8, h⟩ := lv_some h
    refine v_nI ex8 ?_
    refine v_istore_n F dX11_dayOf_115 rfl (Nat.le_of_ble_eq_true rfl) (L' := [mI a1, mI a2, mU, mI x8, mI v4]) rfl ?_
    obtain ⟨x9, ex9, h⟩ := lv_some h
    refine v_iincN F dX11_dayOf_116 (Nat.le_of_ble_eq_true rfl) rfl ex9 (L' := [mI a1, mI a2, mU, mI x8, mI x9]) rfl ?_
    refine v_goto F dX11_dayOf_119 rfl ?_
    cases h
    exact K
theorem fX11_dayOf_101_ok {w : Wd} {l : Launch} {G : Cx} {d m dd : Dt} {a1 a2 a3 v3 v4 : Int} {r : Int} {x : Int} (F : Fx w G cX11_dayOf RX11 5 (some .int) { frames := 2, cells := 0, slots := 0, locals := 41 }) (hX : WF dd m) (h : fX11_dayOf_101 a1 a2 a3 v3 v4 = some x) (K : (fun q => q = r) x) : V w l WF G (QM w G WF (some (mI r)) d m 0 0) d m 0 0 101 [mI a1, mI a2, mU, mI v3, mI v4] [] := by
  unfold fX11_dayOf_101 at h
  exact loop_ok (P := fX11_dayOf_101P w l G (QM w G WF (some (mI r)) d m 0 0) d m a1 a2 a3) (fun s x hx h1 h2 => fX11_dayOf_101f_ok F hX hx (by
    cases x with
    | inl s' => exact h1 s' rfl
    | inr z => cases h2 z rfl; exact K)) h
theorem fX11_dayOf_76f_ok {w : Wd} {l : Launch} {G : Cx} {d m dd : Dt} {a1 a2 a3 : Int} {r : Int} {s : Int × Int} {x : ((Int × Int) ⊕ Int)} (F : Fx w G cX11_dayOf RX11 5 (some .int) { frames := 2, cells := 0, slots := 0, locals := 41 }) (hX : WF dd m) (h : fX11_dayOf_76f a1 a2 a3 s = some x) (K : (Sum.elim (fX11_dayOf_76P w l G (QM w G WF (some (mI r)) d m 0 0) d m a1 a2 a3) (fun q => q = r)) x) : V w l WF G (QM w G WF (some (mI r)) d m 0 0) d m 0 0 76 [mI a1, mI a2, mU, mI (s.1), mI (s.2)] [] := by
  obtain ⟨v3, v4⟩ := s
  unfold fX11_dayOf_76f at h
  dsimp only at h
  refine v_iload F dX11_dayOf_76 rfl ?_
  refine v_sipush F dX11_dayOf_78 rfl ⟨by decide, by decide⟩ ?_
  refine v_icmp_ge F dX11_dayOf_81 rfl (fun hq6 => ?_) (fun hq6 => ?_)
  · rw [if_pos hq6] at h
    obtain ⟨z, hu, ez⟩ := up_some h
    clear h
    subst ez
    have h := hu
    clear hu
    refine v_iconst F dX11_dayOf_98 ⟨by decide, by decide⟩ ?_
    refine v_istore F dX11_dayOf_99 (Nat.le_of_ble_eq_true rfl) (L' := [mI a1, mI a2, mU, mI v3, mI 1]) rfl ?_
    exact fX11_dayOf_101_ok F hX h K
  · rw [if_neg hq6] at h
    refine v_iload_n F dX11_dayOf_84 rfl rfl ?_
    refine v_iload F dX11_dayOf_85 rfl ?_
    refine v_callSv F dX11_dayOf_87 cs_X11_28 rfl (vm_X11_yearDays) rfl (rOk.of rfl) ?_
    refine v_isub F dX11_dayOf_90 ?_
    obtain ⟨x10, ex10, h⟩ := lv_some h
    refine v_nI ex10 ?_
    refine v_istore_n F dX11_dayOf_91 rfl (Nat.le_of_ble_eq_true rfl) (L' := [mI a1, mI a2, mU, mI x10, mI v4]) rfl ?_
    obtain ⟨x11, ex11, h⟩ := lv_some h
    refine v_iincN F dX11_dayOf_92 (Nat.le_of_ble_eq_true rfl) rfl ex11 (L' := [mI a1, mI a2, mU, mI x10, mI x11]) rfl ?_
    refine v_goto F dX11_dayOf_95 rfl ?_
    cases h
    exact K
theorem fX11_dayOf_76_ok {w : Wd} {l : Launch} {G : Cx} {d m dd : Dt} {a1 a2 a3 v3 v4 : Int} {r : Int} {x : Int} (F : Fx w G cX11_dayOf RX11 5 (some .int) { frames := 2, cells := 0, slots := 0, locals := 41 }) (hX : WF dd m) (h : fX11_dayOf_76 a1 a2 a3 v3 v4 = some x) (K : (fun q => q = r) x) : V w l WF G (QM w G WF (some (mI r)) d m 0 0) d m 0 0 76 [mI a1, mI a2, mU, mI v3, mI v4] [] := by
  unfold fX11_dayOf_76 at h
  exact loop_ok (P := fX11_dayOf_76P w l G (QM w G WF (some (mI r)) d m 0 0) d m a1 a2 a3) (fun s x hx h1 h2 => fX11_dayOf_76f_ok F hX hx (by
    cases x with
    | inl s' => exact h1 s' rfl
    | inr z => cases h2 z rfl; exact K)) h
theorem fX11_dayOf_53f_ok {w : Wd} {l : Launch} {G : Cx} {d m dd : Dt} {a1 a2 a3 : Int} {r : Int} {s : Int × Int} {x : ((Int × Int) ⊕ Int)} (F : Fx w G cX11_dayOf RX11 5 (some .int) { frames := 2, cells := 0, slots := 0, locals := 41 }) (hX : WF dd m) (h : fX11_dayOf_53f a1 a2 a3 s = some x) (K : (Sum.elim (fX11_dayOf_53P w l G (QM w G WF (some (mI r)) d m 0 0) d m a1 a2 a3) (fun q => q = r)) x) : V w l WF G (QM w G WF (some (mI r)) d m 0 0) d m 0 0 53 [mI a1, mI a2, mU, mI (s.1), mI (s.2)] [] := by
  obtain ⟨v3, v4⟩ := s
  unfold fX11_dayOf_53f at h
  dsimp only at h
  refine v_iload F dX11_dayOf_53 rfl ?_
  refine v_iload_n F dX11_dayOf_55 rfl rfl ?_
  refine v_icmp_ge F dX11_dayOf_56 rfl (fun hq5 => ?_) (fun hq5 => ?_)
  · rw [if_pos hq5] at h
    obtain ⟨z, hu, ez⟩ := up_some h
    clear h
    subst ez
    have h := hu
    clear hu
    refine v_iload_n F dX11_dayOf_73 rfl rfl ?_
    refine v_istore F dX11_dayOf_74 (Nat.le_of_ble_eq_true rfl) (L' := [mI a1, mI a2, mU, mI v3, mI a1]) rfl ?_
    exact fX11_dayOf_76_ok F hX h K
  · rw [if_neg hq5] at h
    refine v_iload_n F dX11_dayOf_59 rfl rfl ?_
    refine v_iload F dX11_dayOf_60 rfl ?_
    refine v_callSv F dX11_dayOf_62 cs_X11_28 rfl (vm_X11_yearDays) rfl (rOk.of rfl) ?_
    refine v_iadd F dX11_dayOf_65 ?_
    obtain ⟨x12, ex12, h⟩ := lv_some h
    refine v_nI ex12 ?_
    refine v_istore_n F dX11_dayOf_66 rfl (Nat.le_of_ble_eq_true rfl) (L' := [mI a1, mI a2, mU, mI x12, mI v4]) rfl ?_
    obtain ⟨x13, ex13, h⟩ := lv_some h
    refine v_iincN F dX11_dayOf_67 (Nat.le_of_ble_eq_true rfl) rfl ex13 (L' := [mI a1, mI a2, mU, mI x12, mI x13]) rfl ?_
    refine v_goto F dX11_dayOf_70 rfl ?_
    cases h
    exact K
theorem fX11_dayOf_53_ok {w : Wd} {l : Launch} {G : Cx} {d m dd : Dt} {a1 a2 a3 v3 v4 : Int} {r : Int} {x : Int} (F : Fx w G cX11_dayOf RX11 5 (some .int) { frames := 2, cells := 0, slots := 0, locals := 41 }) (hX : WF dd m) (h : fX11_dayOf_53 a1 a2 a3 v3 v4 = some x) (K : (fun q => q = r) x) : V w l WF G (QM w G WF (some (mI r)) d m 0 0) d m 0 0 53 [mI a1, mI a2, mU, mI v3, mI v4] [] := by
  unfold fX11_dayOf_53 at h
  exact loop_ok (P := fX11_dayOf_53P w l G (QM w G WF (some (mI r)) d m 0 0) d m a1 a2 a3) (fun s x hx h1 h2 => fX11_dayOf_53f_ok F hX hx (by
    cases x with
    | inl s' => exact h1 s' rfl
    | inr z => cases h2 z rfl; exact K)) h
theorem vm_X11_dayOf {w : Wd} {l : Launch} {d m : Dt} {a1 a2 a3 : Int} {r : Int} (h : fX11_dayOf a1 a2 a3 = some r) : VM w l WF yX11_dayOf cX11_dayOf 5 (some .int) 2 41 0 0 d m [mI a1, mI a2, mI a3] (some (mI r)) d m := by
  obtain ⟨x, h, K⟩ : ∃ x, fX11_dayOf a1 a2 a3 = some x ∧ x = r := ⟨_, h, rfl⟩
  refine VM.of (L := [mI a1, mI a2, mI a3, mU, mU]) (by decide +kernel) rfl (Nat.le_of_ble_eq_true rfl) fun G F _ => v_fact fun _ hX _ _ => ?_
  unfold fX11_dayOf at h
  refine v_iload_n F dX11_dayOf_0 rfl rfl ?_
  refine v_i2l F dX11_dayOf_1 ?_
  refine v_ldc2 (n := 1900) F dX11_dayOf_2 q2474 rfl ⟨by decide, by decide⟩ ?_
  refine v_ldc2 (n := 2099) F dX11_dayOf_5 q2475 rfl ⟨by decide, by decide⟩ ?_
  refine v_callSv F dX11_dayOf_8 cs_X11_13 rfl (vm_X11_in) rfl (rOk.of rfl) ?_
  refine v_if_eq F dX11_dayOf_11 rfl (fun hq1 => ?_) (fun hq1 => ?_)
  · rw [if_pos hq1] at h
    refine v_fgt (L' := [mU, mU, mU, mU, mU]) ⟨Or.inr rfl, Or.inr rfl, Or.inr rfl, Or.inl rfl, Or.inl rfl, trivial⟩ ?_
    exact fX11_dayOf_41_ok F hX h K
  · rw [if_neg hq1] at h
    refine v_iload_n F dX11_dayOf_14 rfl rfl ?_
    refine v_i2l F dX11_dayOf_15 ?_
    refine v_lconst1 F dX11_dayOf_16 ?_
    refine v_ldc2 (n := 12) F dX11_dayOf_17 q2476 rfl ⟨by decide, by decide⟩ ?_
    refine v_callSv F dX11_dayOf_20 cs_X11_13 rfl (vm_X11_in) rfl (rOk.of rfl) ?_
    refine v_if_eq F dX11_dayOf_23 rfl (fun hq2 => ?_) (fun hq2 => ?_)
    · rw [if_pos hq2] at h
      refine v_fgt (L' := [mU, mU, mU, mU, mU]) ⟨Or.inr rfl, Or.inr rfl, Or.inr rfl, Or.inl rfl, Or.inl rfl, trivial⟩ ?_
      exact fX11_dayOf_41_ok F hX h K
    · rw [if_neg hq2] at h
      refine v_iload_n F dX11_dayOf_26 rfl rfl ?_
      refine v_i2l F dX11_dayOf_27 ?_
      refine v_lconst1 F dX11_dayOf_28 ?_
      refine v_iload_n F dX11_dayOf_29 rfl rfl ?_
      refine v_iload_n F dX11_dayOf_30 rfl rfl ?_
      refine v_callSv F dX11_dayOf_31 cs_X11_38 rfl (vm_X11_monthDays) rfl (rOk.of rfl) ?_
      refine v_i2l F dX11_dayOf_34 ?_
      refine v_callSv F dX11_dayOf_35 cs_X11_13 rfl (vm_X11_in) rfl (rOk.of rfl) ?_
      refine v_if_ne F dX11_dayOf_38 rfl (fun hq3 => ?_) (fun hq3 => ?_)
      · rw [if_neg hq3] at h
        refine v_iload_n F dX11_dayOf_44 rfl rfl ?_
        refine v_iconst F dX11_dayOf_45 ⟨by decide, by decide⟩ ?_
        refine v_isub F dX11_dayOf_46 ?_
        obtain ⟨x4, ex4, h⟩ := lv_some h
        refine v_nI ex4 ?_
        refine v_istore_n F dX11_dayOf_47 rfl (Nat.le_of_ble_eq_true rfl) (L' := [mI a1, mI a2, mI a3, mI x4, mU]) rfl ?_
        refine v_sipush F dX11_dayOf_48 rfl ⟨by decide, by decide⟩ ?_
        refine v_istore F dX11_dayOf_51 (Nat.le_of_ble_eq_true rfl) (L' := [mI a1, mI a2, mI a3, mI x4, mI 2000]) rfl ?_
        refine v_fgt (L' := [mI a1, mI a2, mU, mI x4, mI 2000]) ⟨Or.inl rfl, Or.inl rfl, Or.inr rfl, Or.inl rfl, Or.inl rfl, trivial⟩ ?_
        exact fX11_dayOf_53_ok F hX h K
      · rw [if_pos hq3] at h
        refine v_fgt (L' := [mU, mU, mU, mU, mU]) ⟨Or.inr rfl, Or.inr rfl, Or.inr rfl, Or.inl rfl, Or.inl rfl, trivial⟩ ?_
        exact fX11_dayOf_41_ok F hX h K
theorem vm_X11_person {w : Wd} {l : Launch} {d m : Dt} {a1 a2 a3 : Int} {d' : Dt} {r : Int} (hp : PB m 1545 11) (h : fX11_person d a1 a2 a3 = some (d', r)) : VM w l WF yX11_person cX11_person 5 (some .int) 3 73 0 0 d m [mA 1545, mI a1, mI a2, mI a3] (some (mI r)) d' m := by
  obtain ⟨x, h, K⟩ : ∃ x, fX11_person d a1 a2 a3 = some x ∧ x = (d', r) := ⟨_, h, rfl⟩
  refine VM.of (L := [mA 1545, mI a1, mI a2, mI a3, mU]) (by decide +kernel) rfl (Nat.le_of_ble_eq_true rfl) fun G F _ => v_fact fun _ hX _ _ => ?_
  unfold fX11_person at h
  refine v_iload_n F dX11_person_0 rfl rfl ?_
  refine v_iload_n F dX11_person_1 rfl rfl ?_
  refine v_iload_n F dX11_person_2 rfl rfl ?_
  obtain ⟨x1, hc2, h⟩ := b1_some h
  refine v_callSv F dX11_person_3 cs_X11_48 rfl (vm_X11_dayOf hc2) rfl (rOk.of rfl) ?_
  refine v_istore F dX11_person_6 (Nat.le_of_ble_eq_true rfl) (L' := [mA 1545, mI a1, mI a2, mI a3, mI x1]) rfl ?_
  refine v_iload F dX11_person_8 rfl ?_
  refine v_ldc (n := (-2147483648)) F dX11_person_10 q2483 rfl ⟨by decide, by decide⟩ ?_
  refine v_icmp_ne F dX11_person_12 rfl (fun hq3 => ?_) (fun hq3 => ?_)
  · rw [if_neg hq3] at h
    refine v_aload_n F dX11_person_18 rfl rfl ?_
    refine gf_X11_92 F dX11_person_19 hp ?_
    refine v_bipush F dX11_person_22 rfl ⟨by decide, by decide⟩ ?_
    refine v_icmp_ne F dX11_person_24 rfl (fun hq4 => ?_) (fun hq4 => ?_)
    · rw [if_neg hq4] at h
      refine v_aload_n F dX11_person_30 rfl rfl ?_
      refine gf_X11_95 F dX11_person_31 hp (v := 1552) rfl ?_
      refine v_aload_n F dX11_person_34 rfl rfl ?_
      refine gf_X11_92 F dX11_person_35 hp ?_
      refine v_iload F dX11_person_38 rfl ?_
      obtain ⟨x5, ex5, h⟩ := lv_some h
      refine v_n2 ex5 ?_
      obtain ⟨hi6, h⟩ := ck_some h
      obtain ⟨d7, ed7, h⟩ := sd_some h
      refine v_iast F dX11_person_40 (ar_X11_11 hX hp) hi6 ?_
      refine v_nD ed7 ?_
      refine v_aload_n F dX11_person_41 rfl rfl ?_
      refine gf_X11_98 F dX11_person_42 hp (v := 1553) rfl ?_
      refine v_aload_n F dX11_person_45 rfl rfl ?_
      refine gf_X11_92 F dX11_person_46 hp ?_
      refine v_iload_n F dX11_person_49 rfl rfl ?_
      obtain ⟨x8, ex8, h⟩ := lv_some h
      refine v_n2 ex8 ?_
      obtain ⟨hi9, h⟩ := ck_some h
      obtain ⟨d10, ed10, h⟩ := sd_some h
      refine v_iast F dX11_person_50 (ar_X11_12 hX hp) hi9 ?_
      refine v_nD ed10 ?_
      refine v_aload_n F dX11_person_51 rfl rfl ?_
      refine gf_X11_101 F dX11_person_52 hp (v := 1554) rfl ?_
      refine v_aload_n F dX11_person_55 rfl rfl ?_
      refine gf_X11_92 F dX11_person_56 hp ?_
      refine v_iload_n F dX11_person_59 rfl rfl ?_
      obtain ⟨x11, ex11, h⟩ := lv_some h
      refine v_n2 ex11 ?_
      obtain ⟨hi12, h⟩ := ck_some h
      obtain ⟨d13, ed13, h⟩ := sd_some h
      refine v_iast F dX11_person_60 (ar_X11_13 hX hp) hi12 ?_
      refine v_nD ed13 ?_
      refine v_aload_n F dX11_person_61 rfl rfl ?_
      refine gf_X11_104 F dX11_person_62 hp (v := 1555) rfl ?_
      refine v_aload_n F dX11_person_65 rfl rfl ?_
      refine gf_X11_92 F dX11_person_66 hp ?_
      refine v_iload_n F dX11_person_69 rfl rfl ?_
      obtain ⟨x14, ex14, h⟩ := lv_some h
      refine v_n2 ex14 ?_
      obtain ⟨hi15, h⟩ := ck_some h
      obtain ⟨d16, ed16, h⟩ := sd_some h
      refine v_iast F dX11_person_70 (ar_X11_14 hX hp) hi15 ?_
      refine v_nD ed16 ?_
      refine v_aload_n F dX11_person_71 rfl rfl ?_
      refine gf_X11_107 F dX11_person_72 hp (v := 1556) rfl ?_
      refine v_aload_n F dX11_person_75 rfl rfl ?_
      refine gf_X11_92 F dX11_person_76 hp ?_
      refine v_ldc (n := (-2147483648)) F dX11_person_79 q2483 rfl ⟨by decide, by decide⟩ ?_
      obtain ⟨x17, ex17, h⟩ := lv_some h
      refine v_n2 ex17 ?_
      obtain ⟨hi18, h⟩ := ck_some h
      obtain ⟨d19, ed19, h⟩ := sd_some h
      refine v_iast F dX11_person_81 (ar_X11_15 hX hp) hi18 ?_
      refine v_nD ed19 ?_
      refine v_aload_n F dX11_person_82 rfl rfl ?_
      refine v_iconst F dX11_person_83 ⟨by decide, by decide⟩ ?_
      refine v_iload_n F dX11_person_84 rfl rfl ?_
      refine v_iload_n F dX11_person_85 rfl rfl ?_
      refine v_iload_n F dX11_person_86 rfl rfl ?_
      refine v_iconst F dX11_person_87 ⟨by decide, by decide⟩ ?_
      obtain ⟨d20, hc21, h⟩ := bd_some h
      refine v_callV0 (c := 11) F dX11_person_88 cv_X11_22 rfl (PB.ob hp hX (Nat.le_of_ble_eq_true rfl)) (Nat.le_of_ble_eq_true rfl) rfl (vm_X11_write hp hc21) rfl (rOk.of rfl) ?_
      refine v_aload_n F dX11_person_91 rfl rfl ?_
      refine v_dup_A F dX11_person_92 ?_
      refine gf_X11_92 F dX11_person_93 hp ?_
      obtain ⟨x22, ex22, h⟩ := lv_some h
      refine v_nI ex22 ?_
      refine v_dup_x1_IA F dX11_person_96 ?_
      refine v_iconst F dX11_person_97 ⟨by decide, by decide⟩ ?_
      refine v_iadd F dX11_person_98 ?_
      obtain ⟨d23, ed23, h⟩ := sd_some h
      refine pf_X11_92 F dX11_person_99 hp ?_
      refine v_nD ed23 ?_
      cases h
      cases (show _ = (d', r) from K)
      exact v_iret F dX11_person_102
    · rw [if_pos hq4] at h
      refine v_bipush F dX11_person_27 rfl ⟨by decide, by decide⟩ ?_
      cases h
      cases (show _ = (d', r) from K)
      exact v_iret F dX11_person_29
  · rw [if_pos hq3] at h
    refine v_bipush F dX11_person_15 rfl ⟨by decide, by decide⟩ ?_
    cases h
    cases (show _ = (d', r) from K)
    exact v_iret F dX11_person_17
theorem vm_X0_isPerson {w : Wd} {l : Launch} {d m : Dt} {a1 : Int} (hp : PB m 1 0) : VM w l WF yX0_isPerson cX0_isPerson 2 (some .boolean) 1 22 0 0 d m [mA 1, mI a1] (some (mI (fX0_isPerson d a1))) d m := by
  obtain ⟨r, hr⟩ : ∃ r, fX0_isPerson d a1 = r := ⟨_, rfl⟩
  rw [hr]
  obtain ⟨x, h, K⟩ : ∃ x, fX0_isPerson d a1 = x ∧ x = r := ⟨_, hr, rfl⟩
  refine VM.of (L := [mA 1, mI a1]) (by decide +kernel) rfl (Nat.le_of_ble_eq_true rfl) fun G F _ => v_fact fun _ hX _ _ => ?_
  unfold fX0_isPerson at h
  refine v_iload_n F dX0_isPerson_0 rfl rfl ?_
  refine v_iconst F dX0_isPerson_1 ⟨by decide, by decide⟩ ?_
  refine v_aload_n F dX0_isPerson_2 rfl rfl ?_
  refine gf_X0_200 F dX0_isPerson_3 hp ?_
  refine v_iconst F dX0_isPerson_6 ⟨by decide, by decide⟩ ?_
  refine v_isub F dX0_isPerson_7 ?_
  refine v_callSv F dX0_isPerson_8 cs_X0_163 rfl (vm_X0_within) rfl (rOk.of rfl) ?_
  subst h
  cases (show _ = r from K)
  exact v_zret F (fX0_within_z) dX0_isPerson_11
theorem fX0_isPerson_z {d : Dt} {a1 : Int} : fX0_isPerson d a1 = 0 ∨ fX0_isPerson d a1 = 1 := by
  unfold fX0_isPerson
  repeat' (first | exact Or.inl rfl | exact Or.inr rfl | split | assumption | exact fX0_within_z)
def fX13_move_5P (w : Wd) (l : Launch) (G : Cx) (Q : State → Prop) (m : Dt) (o a1 a2 : Int) (s : Dt × Int) : Prop := V w l WF G Q s.1 m 0 0 5 [mA o, mI a1, mI a2, mI (s.2)] []
theorem fX13_move_55_ok {w : Wd} {l : Launch} {G : Cx} {d m dd : Dt} {o a1 a2 v3 : Int} {d' : Dt} {r : Int} {x : (Dt × Int)} (F : Fx w G cX13_move RX13 4 (some .int) { frames := 0, cells := 0, slots := 0, locals := 0 }) (hX : WF dd m) (hp : PB m o 12) (h : fX13_move_55 d o a1 a2 v3 = some x) (K : (fun q => q = (d', r)) x) : V w l WF G (QM w G WF (some (mI r)) d' m 0 0) d m 0 0 55 [mA o, mI a1, mI a2, mI v3] [] := by
  unfold fX13_move_55 at h
  refine v_aload_n F dX13_move_55 rfl rfl ?_
  refine gf_X13_18 F dX13_move_56 hp (v := (o + 1)) rfl ?_
  refine v_iload_n F dX13_move_59 rfl rfl ?_
  refine v_iload_n F dX13_move_60 rfl rfl ?_
  obtain ⟨hi3, h⟩ := ck_some h
  obtain ⟨d4, ed4, h⟩ := sd_some h
  refine v_iast F dX13_move_61 (ar_X13_6 hX hp) hi3 ?_
  refine v_nD ed4 ?_
  refine v_aload_n F dX13_move_62 rfl rfl ?_
  refine gf_X13_22 F dX13_move_63 hp (v := (o + 2)) rfl ?_
  refine v_iload_n F dX13_move_66 rfl rfl ?_
  refine v_iload_n F dX13_move_67 rfl rfl ?_
  obtain ⟨d5, ed5, h⟩ := sd_some h
  refine v_iast F dX13_move_68 (ar_X13_7 hX hp) hi3 ?_
  refine v_nD ed5 ?_
  refine v_aload_n F dX13_move_69 rfl rfl ?_
  refine v_dup_A F dX13_move_70 ?_
  refine gf_X13_65 F dX13_move_71 hp ?_
  refine v_iconst F dX13_move_74 ⟨by decide, by decide⟩ ?_
  refine v_iadd F dX13_move_75 ?_
  obtain ⟨d6, ed6, h⟩ := sd_some h
  refine pf_X13_65 F dX13_move_76 hp ?_
  refine v_nD ed6 ?_
  refine v_aload_n F dX13_move_79 rfl rfl ?_
  refine gf_X13_65 F dX13_move_80 hp ?_
  cases h
  cases (show _ = (d', r) from K)
  exact v_iret F dX13_move_83
theorem fX13_move_5f_ok {w : Wd} {l : Launch} {G : Cx} {m dd : Dt} {o a1 a2 : Int} {d' : Dt} {r : Int} {s : Dt × Int} {x : ((Dt × Int) ⊕ (Dt × Int))} (F : Fx w G cX13_move RX13 4 (some .int) { frames := 0, cells := 0, slots := 0, locals := 0 }) (hX : WF dd m) (hp : PB m o 12) (h : fX13_move_5f o a1 a2 s = some x) (K : (Sum.elim (fX13_move_5P w l G (QM w G WF (some (mI r)) d' m 0 0) m o a1 a2) (fun q => q = (d', r))) x) : V w l WF G (QM w G WF (some (mI r)) d' m 0 0) s.1 m 0 0 5 [mA o, mI a1, mI a2, mI (s.2)] [] := by
  obtain ⟨d, v3⟩ := s
  unfold fX13_move_5f at h
  dsimp only at h
  refine v_iload_n F dX13_move_5 rfl rfl ?_
  refine v_if_le F dX13_move_6 rfl (fun hq2 => ?_) (fun hq2 => ?_)
  · rw [if_pos hq2] at h
    obtain ⟨z, hu, ez⟩ := up_some h
    clear h
    subst ez
    have h := hu
    clear hu
    exact fX13_move_55_ok F hX hp h K
  · rw [if_neg hq2] at h
    refine v_aload_n F dX13_move_9 rfl rfl ?_
    refine gf_X13_18 F dX13_move_10 hp (v := (o + 1)) rfl ?_
    refine v_iload_n F dX13_move_13 rfl rfl ?_
    refine v_iconst F dX13_move_14 ⟨by decide, by decide⟩ ?_
    refine v_isub F dX13_move_15 ?_
    obtain ⟨x7, ex7, h⟩ := lv_some h
    refine v_nI ex7 ?_
    obtain ⟨hi8, h⟩ := ck_some h
    refine v_iald F dX13_move_16 (ar_X13_6 hX hp) hi8 ?_
    refine v_iload_n F dX13_move_17 rfl rfl ?_
    refine v_icmp_le F dX13_move_18 rfl (fun hq9 => ?_) (fun hq9 => ?_)
    · rw [if_pos hq9] at h
      obtain ⟨z, hu, ez⟩ := up_some h
      clear h
      subst ez
      have h := hu
      clear hu
      exact fX13_move_55_ok F hX hp h K
    · rw [if_neg hq9] at h
      refine v_aload_n F dX13_move_21 rfl rfl ?_
      refine gf_X13_18 F dX13_move_22 hp (v := (o + 1)) rfl ?_
      refine v_iload_n F dX13_move_25 rfl rfl ?_
      refine v_aload_n F dX13_move_26 rfl rfl ?_
      refine gf_X13_18 F dX13_move_27 hp (v := (o + 1)) rfl ?_
      refine v_iload_n F dX13_move_30 rfl rfl ?_
      refine v_iconst F dX13_move_31 ⟨by decide, by decide⟩ ?_
      refine v_isub F dX13_move_32 ?_
      obtain ⟨x10, ex10, h⟩ := lv_some h
      refine v_nI ex10 ?_
      obtain ⟨hi11, h⟩ := ck_some h
      refine v_iald F dX13_move_33 (ar_X13_6 hX hp) hi11 ?_
      obtain ⟨hi12, h⟩ := ck_some h
      obtain ⟨d13, ed13, h⟩ := sd_some h
      refine v_iast F dX13_move_34 (ar_X13_6 hX hp) hi12 ?_
      refine v_nD ed13 ?_
      refine v_aload_n F dX13_move_35 rfl rfl ?_
      refine gf_X13_22 F dX13_move_36 hp (v := (o + 2)) rfl ?_
      refine v_iload_n F dX13_move_39 rfl rfl ?_
      refine v_aload_n F dX13_move_40 rfl rfl ?_
      refine gf_X13_22 F dX13_move_41 hp (v := (o + 2)) rfl ?_
      refine v_iload_n F dX13_move_44 rfl rfl ?_
      refine v_iconst F dX13_move_45 ⟨by decide, by decide⟩ ?_
      refine v_isub F dX13_move_46 ?_
      obtain ⟨x14, ex14, h⟩ := lv_some h
      refine v_nI ex14 ?_
      obtain ⟨hi15, h⟩ := ck_some h
      refine v_iald F dX13_move_47 (ar_X13_7 hX hp) hi15 ?_
      obtain ⟨d16, ed16, h⟩ := sd_some h
      refine v_iast F dX13_move_48 (ar_X13_7 hX hp) hi12 ?_
      refine v_nD ed16 ?_
      obtain ⟨x17, ex17, h⟩ := lv_some h
      refine v_iincN F dX13_move_49 (Nat.le_of_ble_eq_true rfl) rfl ex17 (L' := [mA o, mI a1, mI a2, mI x17]) rfl ?_
      refine v_goto F dX13_move_52 rfl ?_
      cases h
      exact K
theorem fX13_move_5_ok {w : Wd} {l : Launch} {G : Cx} {d m dd : Dt} {o a1 a2 v3 : Int} {d' : Dt} {r : Int} {x : (Dt × Int)} (F : Fx w G cX13_move RX13 4 (some .int) { frames := 0, cells := 0, slots := 0, locals := 0 }) (hX : WF dd m) (hp : PB m o 12) (h : fX13_move_5 d o a1 a2 v3 = some x) (K : (fun q => q = (d', r)) x) : V w l WF G (QM w G WF (some (mI r)) d' m 0 0) d m 0 0 5 [mA o, mI a1, mI a2, mI v3] [] := by
  unfold fX13_move_5 at h
  exact loop_ok (P := fX13_move_5P w l G (QM w G WF (some (mI r)) d' m 0 0) m o a1 a2) (fun s x hx h1 h2 => fX13_move_5f_ok F hX hp hx (by
    cases x with
    | inl s' => exact h1 s' rfl
    | inr z => cases h2 z rfl; exact K)) h
theorem vm_X13_move {w : Wd} {l : Launch} {d m : Dt} {o a1 a2 : Int} {d' : Dt} {r : Int} (hp : PB m o 12) (h : fX13_move d o a1 a2 = some (d', r)) : VM w l WF yX13_move cX13_move 4 (some .int) 0 0 0 0 d m [mA o, mI a1, mI a2] (some (mI r)) d' m := by
  obtain ⟨x, h, K⟩ : ∃ x, fX13_move d o a1 a2 = some x ∧ x = (d', r) := ⟨_, h, rfl⟩
  refine VM.of (L := [mA o, mI a1, mI a2, mU]) (by decide +kernel) rfl (Nat.le_of_ble_eq_true rfl) fun G F _ => v_fact fun _ hX _ _ => ?_
  unfold fX13_move at h
  refine v_aload_n F dX13_move_0 rfl rfl ?_
  refine gf_X13_65 F dX13_move_1 hp ?_
  obtain ⟨x1, ex1, h⟩ := lv_some h
  refine v_nI ex1 ?_
  refine v_istore_n F dX13_move_4 rfl (Nat.le_of_ble_eq_true rfl) (L' := [mA o, mI a1, mI a2, mI x1]) rfl ?_
  exact fX13_move_5_ok F hX hp h K
theorem vm_X0_move {w : Wd} {l : Launch} {d m : Dt} {a1 a2 a3 : Int} {d' : Dt} {r : Int} (hp : PB m 1 0) (h : fX0_move d a1 a2 a3 = some (d', r)) : VM w l WF yX0_move cX0_move 4 (some .int) 4 115 0 0 d m [mA 1, mI a1, mI a2, mI a3] (some (mI r)) d' m := by
  obtain ⟨x, h, K⟩ : ∃ x, fX0_move d a1 a2 a3 = some x ∧ x = (d', r) := ⟨_, h, rfl⟩
  refine VM.of (L := [mA 1, mI a1, mI a2, mI a3]) (by decide +kernel) rfl (Nat.le_of_ble_eq_true rfl) fun G F _ => v_fact fun _ hX _ _ => ?_
  unfold fX0_move at h
  refine v_aload_n F dX0_move_0 rfl rfl ?_
  refine v_iload_n F dX0_move_1 rfl rfl ?_
  refine v_callVv (c := 0) F dX0_move_2 cv_X0_210 rfl (PB.ob hp hX (Nat.le_of_ble_eq_true rfl)) (Nat.le_of_ble_eq_true rfl) rfl (vm_X0_isPerson hp) rfl (rOk.of rfl) ?_
  refine v_if_ne F dX0_move_5 rfl (fun hq1 => ?_) (fun hq1 => ?_)
  · rw [if_neg hq1] at h
    refine v_iload_n F dX0_move_10 rfl rfl ?_
    refine v_callSv F dX0_move_11 cs_X0_186 rfl (vm_X12_isDay) rfl (rOk.of rfl) ?_
    refine v_if_eq F dX0_move_14 rfl (fun hq2 => ?_) (fun hq2 => ?_)
    · rw [if_pos hq2] at h
      refine v_bipush F dX0_move_28 rfl ⟨by decide, by decide⟩ ?_
      cases h
      cases (show _ = (d', r) from K)
      exact v_iret F dX0_move_30
    · rw [if_neg hq2] at h
      refine v_iload_n F dX0_move_17 rfl rfl ?_
      refine v_iconst F dX0_move_18 ⟨by decide, by decide⟩ ?_
      refine v_sipush F dX0_move_19 rfl ⟨by decide, by decide⟩ ?_
      refine v_callSv F dX0_move_22 cs_X0_163 rfl (vm_X0_within) rfl (rOk.of rfl) ?_
      refine v_if_ne F dX0_move_25 rfl (fun hq3 => ?_) (fun hq3 => ?_)
      · rw [if_neg hq3] at h
        refine v_aload_n F dX0_move_31 rfl rfl ?_
        refine gf_X0_26 F dX0_move_32 hp (v := 9) rfl ?_
        refine v_iload_n F dX0_move_35 rfl rfl ?_
        obtain ⟨hi4, h⟩ := ck_some h
        obtain ⟨x5, ex5, h⟩ := lv_some h
        obtain ⟨hn7, h⟩ := ck_some h
        refine v_aaldN (t := 109) (c := 12) F dX0_move_36 (ar_X0_4 hX hp) (Nat.le_of_ble_eq_true rfl) rfl rfl rfl rfl rfl hi4 ex5 fun hr6 => ?_
        have x5p := hr6.resolve_left hn7
        refine gf_X0_213 F dX0_move_37 x5p ?_
        refine v_bipush F dX0_move_40 rfl ⟨by decide, by decide⟩ ?_
        refine v_icmp_ne F dX0_move_42 rfl (fun hq8 => ?_) (fun hq8 => ?_)
        · rw [if_neg hq8] at h
          refine v_aload_n F dX0_move_48 rfl rfl ?_
          refine v_iconst F dX0_move_49 ⟨by decide, by decide⟩ ?_
          refine v_iload_n F dX0_move_50 rfl rfl ?_
          refine v_iload_n F dX0_move_51 rfl rfl ?_
          refine v_iload_n F dX0_move_52 rfl rfl ?_
          refine v_iconst F dX0_move_53 ⟨by decide, by decide⟩ ?_
          obtain ⟨d9, hc10, h⟩ := bd_some h
          refine v_callV0 (c := 0) F dX0_move_54 cv_X0_173 rfl (PB.ob hp hX (Nat.le_of_ble_eq_true rfl)) (Nat.le_of_ble_eq_true rfl) rfl (vm_X0_write hp hc10) rfl (rOk.of rfl) ?_
          refine v_aload_n F dX0_move_57 rfl rfl ?_
          refine gf_X0_26 F dX0_move_58 hp (v := 9) rfl ?_
          refine v_iload_n F dX0_move_61 rfl rfl ?_
          obtain ⟨x11, ex11, h⟩ := lv_some h
          obtain ⟨hn13, h⟩ := ck_some h
          refine v_aaldN (t := 109) (c := 12) F dX0_move_62 (ar_X0_4 hX hp) (Nat.le_of_ble_eq_true rfl) rfl rfl rfl rfl rfl hi4 ex11 fun hr12 => ?_
          have x11p := hr12.resolve_left hn13
          refine v_iload_n F dX0_move_63 rfl rfl ?_
          refine v_iload_n F dX0_move_64 rfl rfl ?_
          obtain ⟨d14, x16, hc15, h⟩ := b2_some h
          refine v_callVv (c := 12) F dX0_move_65 cv_X0_216 rfl (PB.ob x11p hX (Nat.le_of_ble_eq_true rfl)) (Nat.le_of_ble_eq_true rfl) rfl (vm_X13_move x11p hc15) rfl (rOk.of rfl) ?_
          cases h
          cases (show _ = (d', r) from K)
          exact v_iret F dX0_move_68
        · rw [if_pos hq8] at h
          refine v_bipush F dX0_move_45 rfl ⟨by decide, by decide⟩ ?_
          cases h
          cases (show _ = (d', r) from K)
          exact v_iret F dX0_move_47
      · rw [if_pos hq3] at h
        refine v_bipush F dX0_move_28 rfl ⟨by decide, by decide⟩ ?_
        cases h
        cases (show _ = (d', r) from K)
        exact v_iret F dX0_move_30
  · rw [if_pos hq1] at h
    refine v_iconst F dX0_move_8 ⟨by decide, by decide⟩ ?_
    cases h
    cases (show _ = (d', r) from K)
    exact v_iret F dX0_move_9
theorem vm_X11_isPerson {w : Wd} {l : Launch} {d m : Dt} {a1 : Int} (hp : PB m 1545 11) : VM w l WF yX11_isPerson cX11_isPerson 2 (some .boolean) 1 25 0 0 d m [mA 1545, mI a1] (some (mI (fX11_isPerson d a1))) d m := by
  obtain ⟨r, hr⟩ : ∃ r, fX11_isPerson d a1 = r := ⟨_, rfl⟩
  rw [hr]
  obtain ⟨x, h, K⟩ : ∃ x, fX11_isPerson d a1 = x ∧ x = r := ⟨_, hr, rfl⟩
  refine VM.of (L := [mA 1545, mI a1]) (by decide +kernel) rfl (Nat.le_of_ble_eq_true rfl) fun G F _ => v_fact fun _ hX _ _ => ?_
  unfold fX11_isPerson at h
  refine v_iload_n F dX11_isPerson_0 rfl rfl ?_
  refine v_i2l F dX11_isPerson_1 ?_
  refine v_lconst0 F dX11_isPerson_2 ?_
  refine v_aload_n F dX11_isPerson_3 rfl rfl ?_
  refine gf_X11_92 F dX11_isPerson_4 hp ?_
  refine v_iconst F dX11_isPerson_7 ⟨by decide, by decide⟩ ?_
  refine v_isub F dX11_isPerson_8 ?_
  refine v_i2l F dX11_isPerson_9 ?_
  refine v_callSv F dX11_isPerson_10 cs_X11_13 rfl (vm_X11_in) rfl (rOk.of rfl) ?_
  subst h
  cases (show _ = r from K)
  exact v_zret F (fX11_in_z) dX11_isPerson_13
theorem fX11_isPerson_z {d : Dt} {a1 : Int} : fX11_isPerson d a1 = 0 ∨ fX11_isPerson d a1 = 1 := by
  unfold fX11_isPerson
  repeat' (first | exact Or.inl rfl | exact Or.inr rfl | split | assumption | exact fX11_in_z)
theorem vm_X11_move {w : Wd} {l : Launch} {d m : Dt} {a1 a2 a3 : Int} {d' : Dt} {r : Int} (hp : PB m 1545 11) (h : fX11_move d a1 a2 a3 = some (d', r)) : VM w l WF yX11_move cX11_move 4 (some .int) 3 73 0 0 d m [mA 1545, mI a1, mI a2, mI a3] (some (mI r)) d' m := by
  obtain ⟨x, h, K⟩ : ∃ x, fX11_move d a1 a2 a3 = some x ∧ x = (d', r) := ⟨_, h, rfl⟩
  refine VM.of (L := [mA 1545, mI a1, mI a2, mI a3]) (by decide +kernel) rfl (Nat.le_of_ble_eq_true rfl) fun G F _ => v_fact fun _ hX _ _ => ?_
  unfold fX11_move at h
  refine v_aload_n F dX11_move_0 rfl rfl ?_
  refine v_iload_n F dX11_move_1 rfl rfl ?_
  refine v_callVv (c := 11) F dX11_move_2 cv_X11_110 rfl (PB.ob hp hX (Nat.le_of_ble_eq_true rfl)) (Nat.le_of_ble_eq_true rfl) rfl (vm_X11_isPerson hp) rfl (rOk.of rfl) ?_
  refine v_if_ne F dX11_move_5 rfl (fun hq1 => ?_) (fun hq1 => ?_)
  · rw [if_neg hq1] at h
    refine v_iload_n F dX11_move_10 rfl rfl ?_
    refine v_callSv F dX11_move_11 cs_X11_70 rfl (vm_X11_isDay) rfl (rOk.of rfl) ?_
    refine v_if_eq F dX11_move_14 rfl (fun hq2 => ?_) (fun hq2 => ?_)
    · rw [if_pos hq2] at h
      refine v_bipush F dX11_move_31 rfl ⟨by decide, by decide⟩ ?_
      cases h
      cases (show _ = (d', r) from K)
      exact v_iret F dX11_move_33
    · rw [if_neg hq2] at h
      refine v_iload_n F dX11_move_17 rfl rfl ?_
      refine v_i2l F dX11_move_18 ?_
      refine v_ldc2 (n := (-1)) F dX11_move_19 q2492 rfl ⟨by decide, by decide⟩ ?_
      refine v_ldc2 (n := 999) F dX11_move_22 q2454 rfl ⟨by decide, by decide⟩ ?_
      refine v_callSv F dX11_move_25 cs_X11_13 rfl (vm_X11_in) rfl (rOk.of rfl) ?_
      refine v_if_ne F dX11_move_28 rfl (fun hq3 => ?_) (fun hq3 => ?_)
      · rw [if_neg hq3] at h
        refine v_aload_n F dX11_move_34 rfl rfl ?_
        refine gf_X11_115 F dX11_move_35 hp (v := 1557) rfl ?_
        refine v_iload_n F dX11_move_38 rfl rfl ?_
        obtain ⟨hi4, h⟩ := ck_some h
        refine v_iald F dX11_move_39 (ar_X11_16 hX hp) hi4 ?_
        refine v_bipush F dX11_move_40 rfl ⟨by decide, by decide⟩ ?_
        refine v_icmp_ne F dX11_move_42 rfl (fun hq5 => ?_) (fun hq5 => ?_)
        · rw [if_neg hq5] at h
          refine v_aload_n F dX11_move_48 rfl rfl ?_
          refine gf_X11_118 F dX11_move_49 hp (v := 1558) rfl ?_
          refine v_bipush F dX11_move_52 rfl ⟨by decide, by decide⟩ ?_
          refine v_iload_n F dX11_move_54 rfl rfl ?_
          refine v_imul F dX11_move_55 ?_
          refine v_aload_n F dX11_move_56 rfl rfl ?_
          refine gf_X11_115 F dX11_move_57 hp (v := 1557) rfl ?_
          refine v_iload_n F dX11_move_60 rfl rfl ?_
          refine v_iald F dX11_move_61 (ar_X11_16 hX hp) hi4 ?_
          refine v_iadd F dX11_move_62 ?_
          refine v_iload_n F dX11_move_63 rfl rfl ?_
          obtain ⟨x6, ex6, h⟩ := lv_some h
          refine v_n2 ex6 ?_
          obtain ⟨hi7, h⟩ := ck_some h
          obtain ⟨d8, ed8, h⟩ := sd_some h
          refine v_iast F dX11_move_64 (ar_X11_17 hX hp) hi7 ?_
          refine v_nD ed8 ?_
          refine v_aload_n F dX11_move_65 rfl rfl ?_
          refine gf_X11_121 F dX11_move_66 hp (v := 1559) rfl ?_
          refine v_bipush F dX11_move_69 rfl ⟨by decide, by decide⟩ ?_
          refine v_iload_n F dX11_move_71 rfl rfl ?_
          refine v_imul F dX11_move_72 ?_
          refine v_aload_n F dX11_move_73 rfl rfl ?_
          refine gf_X11_115 F dX11_move_74 hp (v := 1557) rfl ?_
          refine v_iload_n F dX11_move_77 rfl rfl ?_
          refine v_iald F dX11_move_78 (ar_X11_16 hX hp) hi4 ?_
          refine v_iadd F dX11_move_79 ?_
          refine v_iload_n F dX11_move_80 rfl rfl ?_
          obtain ⟨x9, ex9, h⟩ := lv_some h
          refine v_n2 ex9 ?_
          obtain ⟨hi10, h⟩ := ck_some h
          obtain ⟨d11, ed11, h⟩ := sd_some h
          refine v_iast F dX11_move_81 (ar_X11_18 hX hp) hi10 ?_
          refine v_nD ed11 ?_
          refine v_aload_n F dX11_move_82 rfl rfl ?_
          refine gf_X11_115 F dX11_move_83 hp (v := 1557) rfl ?_
          refine v_iload_n F dX11_move_86 rfl rfl ?_
          refine v_dup2_IA F dX11_move_87 ?_
          refine v_iald F dX11_move_88 (ar_X11_16 hX hp) hi4 ?_
          refine v_iconst F dX11_move_89 ⟨by decide, by decide⟩ ?_
          refine v_iadd F dX11_move_90 ?_
          obtain ⟨d12, ed12, h⟩ := sd_some h
          refine v_iast F dX11_move_91 (ar_X11_16 hX hp) hi4 ?_
          refine v_nD ed12 ?_
          refine v_aload_n F dX11_move_92 rfl rfl ?_
          refine v_iconst F dX11_move_93 ⟨by decide, by decide⟩ ?_
          refine v_iload_n F dX11_move_94 rfl rfl ?_
          refine v_iload_n F dX11_move_95 rfl rfl ?_
          refine v_iload_n F dX11_move_96 rfl rfl ?_
          refine v_iconst F dX11_move_97 ⟨by decide, by decide⟩ ?_
          obtain ⟨d13, hc14, h⟩ := bd_some h
          refine v_callV0 (c := 11) F dX11_move_98 cv_X11_22 rfl (PB.ob hp hX (Nat.le_of_ble_eq_true rfl)) (Nat.le_of_ble_eq_true rfl) rfl (vm_X11_write hp hc14) rfl (rOk.of rfl) ?_
          refine v_aload_n F dX11_move_101 rfl rfl ?_
          refine gf_X11_115 F dX11_move_102 hp (v := 1557) rfl ?_
          refine v_iload_n F dX11_move_105 rfl rfl ?_
          refine v_iald F dX11_move_106 (ar_X11_16 hX hp) hi4 ?_
          cases h
          cases (show _ = (d', r) from K)
          exact v_iret F dX11_move_107
        · rw [if_pos hq5] at h
          refine v_bipush F dX11_move_45 rfl ⟨by decide, by decide⟩ ?_
          cases h
          cases (show _ = (d', r) from K)
          exact v_iret F dX11_move_47
      · rw [if_pos hq3] at h
        refine v_bipush F dX11_move_31 rfl ⟨by decide, by decide⟩ ?_
        cases h
        cases (show _ = (d', r) from K)
        exact v_iret F dX11_move_33
  · rw [if_pos hq1] at h
    refine v_iconst F dX11_move_8 ⟨by decide, by decide⟩ ?_
    cases h
    cases (show _ = (d', r) from K)
    exact v_iret F dX11_move_9
theorem vm_X13_fact {w : Wd} {l : Launch} {d m : Dt} {o a1 a2 a3 a4 : Int} {d' : Dt} {r : Int} (hp : PB m o 12) (h : fX13_fact d o a1 a2 a3 a4 = some (d', r)) : VM w l WF yX13_fact cX13_fact 5 (some .int) 0 0 0 0 d m [mA o, mI a1, mI a2, mI a3, mI a4] (some (mI r)) d' m := by
  obtain ⟨x, h, K⟩ : ∃ x, fX13_fact d o a1 a2 a3 a4 = some x ∧ x = (d', r) := ⟨_, h, rfl⟩
  refine VM.of (L := [mA o, mI a1, mI a2, mI a3, mI a4]) (by decide +kernel) rfl (Nat.le_of_ble_eq_true rfl) fun G F _ => v_fact fun _ hX _ _ => ?_
  unfold fX13_fact at h
  refine v_aload_n F dX13_fact_0 rfl rfl ?_
  refine gf_X13_25 F dX13_fact_1 hp (v := (o + 3)) rfl ?_
  refine v_aload_n F dX13_fact_4 rfl rfl ?_
  refine gf_X13_76 F dX13_fact_5 hp ?_
  refine v_iload_n F dX13_fact_8 rfl rfl ?_
  obtain ⟨x1, ex1, h⟩ := lv_some h
  refine v_n2 ex1 ?_
  obtain ⟨hi2, h⟩ := ck_some h
  obtain ⟨d3, ed3, h⟩ := sd_some h
  refine v_iast F dX13_fact_9 (ar_X13_9 hX hp) hi2 ?_
  refine v_nD ed3 ?_
  refine v_aload_n F dX13_fact_10 rfl rfl ?_
  refine gf_X13_28 F dX13_fact_11 hp (v := (o + 4)) rfl ?_
  refine v_aload_n F dX13_fact_14 rfl rfl ?_
  refine gf_X13_76 F dX13_fact_15 hp ?_
  refine v_iload_n F dX13_fact_18 rfl rfl ?_
  obtain ⟨x4, ex4, h⟩ := lv_some h
  refine v_n2 ex4 ?_
  obtain ⟨hi5, h⟩ := ck_some h
  obtain ⟨d6, ed6, h⟩ := sd_some h
  refine v_iast F dX13_fact_19 (ar_X13_10 hX hp) hi5 ?_
  refine v_nD ed6 ?_
  refine v_aload_n F dX13_fact_20 rfl rfl ?_
  refine gf_X13_31 F dX13_fact_21 hp (v := (o + 5)) rfl ?_
  refine v_aload_n F dX13_fact_24 rfl rfl ?_
  refine gf_X13_76 F dX13_fact_25 hp ?_
  refine v_iload_n F dX13_fact_28 rfl rfl ?_
  obtain ⟨x7, ex7, h⟩ := lv_some h
  refine v_n2 ex7 ?_
  obtain ⟨hi8, h⟩ := ck_some h
  obtain ⟨d9, ed9, h⟩ := sd_some h
  refine v_iast F dX13_fact_29 (ar_X13_11 hX hp) hi8 ?_
  refine v_nD ed9 ?_
  refine v_aload_n F dX13_fact_30 rfl rfl ?_
  refine gf_X13_34 F dX13_fact_31 hp (v := (o + 6)) rfl ?_
  refine v_aload_n F dX13_fact_34 rfl rfl ?_
  refine gf_X13_76 F dX13_fact_35 hp ?_
  refine v_iload F dX13_fact_38 rfl ?_
  obtain ⟨x10, ex10, h⟩ := lv_some h
  refine v_n2 ex10 ?_
  obtain ⟨hi11, h⟩ := ck_some h
  obtain ⟨d12, ed12, h⟩ := sd_some h
  refine v_iast F dX13_fact_40 (ar_X13_12 hX hp) hi11 ?_
  refine v_nD ed12 ?_
  refine v_aload_n F dX13_fact_41 rfl rfl ?_
  refine v_dup_A F dX13_fact_42 ?_
  refine gf_X13_76 F dX13_fact_43 hp ?_
  refine v_iconst F dX13_fact_46 ⟨by decide, by decide⟩ ?_
  refine v_iadd F dX13_fact_47 ?_
  obtain ⟨d13, ed13, h⟩ := sd_some h
  refine pf_X13_76 F dX13_fact_48 hp ?_
  refine v_nD ed13 ?_
  refine v_aload_n F dX13_fact_51 rfl rfl ?_
  refine gf_X13_76 F dX13_fact_52 hp ?_
  cases h
  cases (show _ = (d', r) from K)
  exact v_iret F dX13_fact_55
theorem vm_X0_fact {w : Wd} {l : Launch} {d m : Dt} {a1 a2 a3 a4 a5 : Int} {d' : Dt} {r : Int} (hp : PB m 1 0) (h : fX0_fact d a1 a2 a3 a4 a5 = some (d', r)) : VM w l WF yX0_fact cX0_fact 6 (some .int) 4 115 0 0 d m [mA 1, mI a1, mI a2, mI a3, mI a4, mI a5] (some (mI r)) d' m := by
  obtain ⟨x, h, K⟩ : ∃ x, fX0_fact d a1 a2 a3 a4 a5 = some x ∧ x = (d', r) := ⟨_, h, rfl⟩
  refine VM.of (L := [mA 1, mI a1, mI a2, mI a3, mI a4, mI a5]) (by decide +kernel) rfl (Nat.le_of_ble_eq_true rfl) fun G F _ => v_fact fun _ hX _ _ => ?_
  unfold fX0_fact at h
  refine v_aload_n F dX0_fact_0 rfl rfl ?_
  refine v_iload_n F dX0_fact_1 rfl rfl ?_
  refine v_callVv (c := 0) F dX0_fact_2 cv_X0_210 rfl (PB.ob hp hX (Nat.le_of_ble_eq_true rfl)) (Nat.le_of_ble_eq_true rfl) rfl (vm_X0_isPerson hp) rfl (rOk.of rfl) ?_
  refine v_if_ne F dX0_fact_5 rfl (fun hq1 => ?_) (fun hq1 => ?_)
  · rw [if_neg hq1] at h
    refine v_iload_n F dX0_fact_10 rfl rfl ?_
    refine v_iconst F dX0_fact_11 ⟨by decide, by decide⟩ ?_
    refine v_bipush F dX0_fact_12 rfl ⟨by decide, by decide⟩ ?_
    refine v_callSv F dX0_fact_14 cs_X0_163 rfl (vm_X0_within) rfl (rOk.of rfl) ?_
    refine v_if_eq F dX0_fact_17 rfl (fun hq2 => ?_) (fun hq2 => ?_)
    · rw [if_pos hq2] at h
      refine v_bipush F dX0_fact_49 rfl ⟨by decide, by decide⟩ ?_
      cases h
      cases (show _ = (d', r) from K)
      exact v_iret F dX0_fact_51
    · rw [if_neg hq2] at h
      refine v_iload_n F dX0_fact_20 rfl rfl ?_
      refine v_iconst F dX0_fact_21 ⟨by decide, by decide⟩ ?_
      refine v_iconst F dX0_fact_22 ⟨by decide, by decide⟩ ?_
      refine v_callSv F dX0_fact_23 cs_X0_163 rfl (vm_X0_within) rfl (rOk.of rfl) ?_
      refine v_if_eq F dX0_fact_26 rfl (fun hq3 => ?_) (fun hq3 => ?_)
      · rw [if_pos hq3] at h
        refine v_bipush F dX0_fact_49 rfl ⟨by decide, by decide⟩ ?_
        cases h
        cases (show _ = (d', r) from K)
        exact v_iret F dX0_fact_51
      · rw [if_neg hq3] at h
        refine v_iload F dX0_fact_29 rfl ?_
        refine v_callSv F dX0_fact_31 cs_X0_186 rfl (vm_X12_isDay) rfl (rOk.of rfl) ?_
        refine v_if_eq F dX0_fact_34 rfl (fun hq4 => ?_) (fun hq4 => ?_)
        · rw [if_pos hq4] at h
          refine v_bipush F dX0_fact_49 rfl ⟨by decide, by decide⟩ ?_
          cases h
          cases (show _ = (d', r) from K)
          exact v_iret F dX0_fact_51
        · rw [if_neg hq4] at h
          refine v_iload F dX0_fact_37 rfl ?_
          refine v_iload F dX0_fact_39 rfl ?_
          refine v_ldc (n := 36524) F dX0_fact_41 q1145 rfl ⟨by decide, by decide⟩ ?_
          refine v_callSv F dX0_fact_43 cs_X0_163 rfl (vm_X0_within) rfl (rOk.of rfl) ?_
          refine v_if_ne F dX0_fact_46 rfl (fun hq5 => ?_) (fun hq5 => ?_)
          · rw [if_neg hq5] at h
            refine v_aload_n F dX0_fact_52 rfl rfl ?_
            refine gf_X0_26 F dX0_fact_53 hp (v := 9) rfl ?_
            refine v_iload_n F dX0_fact_56 rfl rfl ?_
            obtain ⟨hi6, h⟩ := ck_some h
            obtain ⟨x7, ex7, h⟩ := lv_some h
            obtain ⟨hn9, h⟩ := ck_some h
            refine v_aaldN (t := 109) (c := 12) F dX0_fact_57 (ar_X0_4 hX hp) (Nat.le_of_ble_eq_true rfl) rfl rfl rfl rfl rfl hi6 ex7 fun hr8 => ?_
            have x7p := hr8.resolve_left hn9
            refine gf_X0_220 F dX0_fact_58 x7p ?_
            refine v_bipush F dX0_fact_61 rfl ⟨by decide, by decide⟩ ?_
            refine v_icmp_ne F dX0_fact_63 rfl (fun hq10 => ?_) (fun hq10 => ?_)
            · rw [if_neg hq10] at h
              refine v_aload_n F dX0_fact_69 rfl rfl ?_
              refine v_iconst F dX0_fact_70 ⟨by decide, by decide⟩ ?_
              refine v_iload_n F dX0_fact_71 rfl rfl ?_
              refine v_iconst F dX0_fact_72 ⟨by decide, by decide⟩ ?_
              refine v_iload_n F dX0_fact_73 rfl rfl ?_
              refine v_imul F dX0_fact_74 ?_
              refine v_iload_n F dX0_fact_75 rfl rfl ?_
              refine v_iadd F dX0_fact_76 ?_
              refine v_iload F dX0_fact_77 rfl ?_
              refine v_iload F dX0_fact_79 rfl ?_
              obtain ⟨d11, hc12, h⟩ := bd_some h
              refine v_callV0 (c := 0) F dX0_fact_81 cv_X0_173 rfl (PB.ob hp hX (Nat.le_of_ble_eq_true rfl)) (Nat.le_of_ble_eq_true rfl) rfl (vm_X0_write hp hc12) rfl (rOk.of rfl) ?_
              refine v_aload_n F dX0_fact_84 rfl rfl ?_
              refine gf_X0_26 F dX0_fact_85 hp (v := 9) rfl ?_
              refine v_iload_n F dX0_fact_88 rfl rfl ?_
              obtain ⟨x13, ex13, h⟩ := lv_some h
              obtain ⟨hn15, h⟩ := ck_some h
              refine v_aaldN (t := 109) (c := 12) F dX0_fact_89 (ar_X0_4 hX hp) (Nat.le_of_ble_eq_true rfl) rfl rfl rfl rfl rfl hi6 ex13 fun hr14 => ?_
              have x13p := hr14.resolve_left hn15
              refine v_iload_n F dX0_fact_90 rfl rfl ?_
              refine v_iload_n F dX0_fact_91 rfl rfl ?_
              refine v_iload F dX0_fact_92 rfl ?_
              refine v_iload F dX0_fact_94 rfl ?_
              obtain ⟨d16, x18, hc17, h⟩ := b2_some h
              refine v_callVv (c := 12) F dX0_fact_96 cv_X0_223 rfl (PB.ob x13p hX (Nat.le_of_ble_eq_true rfl)) (Nat.le_of_ble_eq_true rfl) rfl (vm_X13_fact x13p hc17) rfl (rOk.of rfl) ?_
              cases h
              cases (show _ = (d', r) from K)
              exact v_iret F dX0_fact_99
            · rw [if_pos hq10] at h
              refine v_bipush F dX0_fact_66 rfl ⟨by decide, by decide⟩ ?_
              cases h
              cases (show _ = (d', r) from K)
              exact v_iret F dX0_fact_68
          · rw [if_pos hq5] at h
            refine v_bipush F dX0_fact_49 rfl ⟨by decide, by decide⟩ ?_
            cases h
            cases (show _ = (d', r) from K)
            exact v_iret F dX0_fact_51
  · rw [if_pos hq1] at h
    refine v_iconst F dX0_fact_8 ⟨by decide, by decide⟩ ?_
    cases h
    cases (show _ = (d', r) from K)
    exact v_iret F dX0_fact_9
theorem vm_X11_fact {w : Wd} {l : Launch} {d m : Dt} {a1 a2 a3 a4 a5 : Int} {d' : Dt} {r : Int} (hp : PB m 1545 11) (h : fX11_fact d a1 a2 a3 a4 a5 = some (d', r)) : VM w l WF yX11_fact cX11_fact 7 (some .int) 3 73 0 0 d m [mA 1545, mI a1, mI a2, mI a3, mI a4, mI a5] (some (mI r)) d' m := by
  obtain ⟨x, h, K⟩ : ∃ x, fX11_fact d a1 a2 a3 a4 a5 = some x ∧ x = (d', r) := ⟨_, h, rfl⟩
  refine VM.of (L := [mA 1545, mI a1, mI a2, mI a3, mI a4, mI a5, mU]) (by decide +kernel) rfl (Nat.le_of_ble_eq_true rfl) fun G F _ => v_fact fun _ hX _ _ => ?_
  unfold fX11_fact at h
  refine v_aload_n F dX11_fact_0 rfl rfl ?_
  refine v_iload_n F dX11_fact_1 rfl rfl ?_
  refine v_callVv (c := 11) F dX11_fact_2 cv_X11_110 rfl (PB.ob hp hX (Nat.le_of_ble_eq_true rfl)) (Nat.le_of_ble_eq_true rfl) rfl (vm_X11_isPerson hp) rfl (rOk.of rfl) ?_
  refine v_if_ne F dX11_fact_5 rfl (fun hq1 => ?_) (fun hq1 => ?_)
  · rw [if_neg hq1] at h
    refine v_iload_n F dX11_fact_10 rfl rfl ?_
    refine v_i2l F dX11_fact_11 ?_
    refine v_lconst0 F dX11_fact_12 ?_
    refine v_ldc2 (n := 9) F dX11_fact_13 q2497 rfl ⟨by decide, by decide⟩ ?_
    refine v_callSv F dX11_fact_16 cs_X11_13 rfl (vm_X11_in) rfl (rOk.of rfl) ?_
    refine v_if_eq F dX11_fact_19 rfl (fun hq2 => ?_) (fun hq2 => ?_)
    · rw [if_pos hq2] at h
      refine v_bipush F dX11_fact_55 rfl ⟨by decide, by decide⟩ ?_
      cases h
      cases (show _ = (d', r) from K)
      exact v_iret F dX11_fact_57
    · rw [if_neg hq2] at h
      refine v_iload_n F dX11_fact_22 rfl rfl ?_
      refine v_i2l F dX11_fact_23 ?_
      refine v_lconst0 F dX11_fact_24 ?_
      refine v_lconst1 F dX11_fact_25 ?_
      refine v_callSv F dX11_fact_26 cs_X11_13 rfl (vm_X11_in) rfl (rOk.of rfl) ?_
      refine v_if_eq F dX11_fact_29 rfl (fun hq3 => ?_) (fun hq3 => ?_)
      · rw [if_pos hq3] at h
        refine v_bipush F dX11_fact_55 rfl ⟨by decide, by decide⟩ ?_
        cases h
        cases (show _ = (d', r) from K)
        exact v_iret F dX11_fact_57
      · rw [if_neg hq3] at h
        refine v_iload F dX11_fact_32 rfl ?_
        refine v_callSv F dX11_fact_34 cs_X11_70 rfl (vm_X11_isDay) rfl (rOk.of rfl) ?_
        refine v_if_eq F dX11_fact_37 rfl (fun hq4 => ?_) (fun hq4 => ?_)
        · rw [if_pos hq4] at h
          refine v_bipush F dX11_fact_55 rfl ⟨by decide, by decide⟩ ?_
          cases h
          cases (show _ = (d', r) from K)
          exact v_iret F dX11_fact_57
        · rw [if_neg hq4] at h
          refine v_iload F dX11_fact_40 rfl ?_
          refine v_callSv F dX11_fact_42 cs_X11_70 rfl (vm_X11_isDay) rfl (rOk.of rfl) ?_
          refine v_if_eq F dX11_fact_45 rfl (fun hq5 => ?_) (fun hq5 => ?_)
          · rw [if_pos hq5] at h
            refine v_bipush F dX11_fact_55 rfl ⟨by decide, by decide⟩ ?_
            cases h
            cases (show _ = (d', r) from K)
            exact v_iret F dX11_fact_57
          · rw [if_neg hq5] at h
            refine v_iload F dX11_fact_48 rfl ?_
            refine v_iload F dX11_fact_50 rfl ?_
            refine v_icmp_ge F dX11_fact_52 rfl (fun hq6 => ?_) (fun hq6 => ?_)
            · rw [if_pos hq6] at h
              refine v_aload_n F dX11_fact_58 rfl rfl ?_
              refine gf_X11_126 F dX11_fact_59 hp (v := 1560) rfl ?_
              refine v_iload_n F dX11_fact_62 rfl rfl ?_
              obtain ⟨hi7, h⟩ := ck_some h
              refine v_iald F dX11_fact_63 (ar_X11_19 hX hp) hi7 ?_
              refine v_bipush F dX11_fact_64 rfl ⟨by decide, by decide⟩ ?_
              refine v_icmp_ne F dX11_fact_66 rfl (fun hq8 => ?_) (fun hq8 => ?_)
              · rw [if_neg hq8] at h
                refine v_bipush F dX11_fact_72 rfl ⟨by decide, by decide⟩ ?_
                refine v_iload_n F dX11_fact_74 rfl rfl ?_
                refine v_imul F dX11_fact_75 ?_
                refine v_aload_n F dX11_fact_76 rfl rfl ?_
                refine gf_X11_126 F dX11_fact_77 hp (v := 1560) rfl ?_
                refine v_iload_n F dX11_fact_80 rfl rfl ?_
                refine v_iald F dX11_fact_81 (ar_X11_19 hX hp) hi7 ?_
                refine v_iadd F dX11_fact_82 ?_
                obtain ⟨x9, ex9, h⟩ := lv_some h
                refine v_nI ex9 ?_
                refine v_istore F dX11_fact_83 (Nat.le_of_ble_eq_true rfl) (L' := [mA 1545, mI a1, mI a2, mI a3, mI a4, mI a5, mI x9]) rfl ?_
                refine v_aload_n F dX11_fact_85 rfl rfl ?_
                refine gf_X11_129 F dX11_fact_86 hp (v := 1561) rfl ?_
                refine v_iload F dX11_fact_89 rfl ?_
                refine v_iload_n F dX11_fact_91 rfl rfl ?_
                obtain ⟨hi10, h⟩ := ck_some h
                obtain ⟨d11, ed11, h⟩ := sd_some h
                refine v_iast F dX11_fact_92 (ar_X11_20 hX hp) hi10 ?_
                refine v_nD ed11 ?_
                refine v_aload_n F dX11_fact_93 rfl rfl ?_
                refine gf_X11_132 F dX11_fact_94 hp (v := 1562) rfl ?_
                refine v_iload F dX11_fact_97 rfl ?_
                refine v_iload_n F dX11_fact_99 rfl rfl ?_
                obtain ⟨d12, ed12, h⟩ := sd_some h
                refine v_iast F dX11_fact_100 (ar_X11_21 hX hp) hi10 ?_
                refine v_nD ed12 ?_
                refine v_aload_n F dX11_fact_101 rfl rfl ?_
                refine gf_X11_135 F dX11_fact_102 hp (v := 1563) rfl ?_
                refine v_iload F dX11_fact_105 rfl ?_
                refine v_iload F dX11_fact_107 rfl ?_
                obtain ⟨d13, ed13, h⟩ := sd_some h
                refine v_iast F dX11_fact_109 (ar_X11_22 hX hp) hi10 ?_
                refine v_nD ed13 ?_
                refine v_aload_n F dX11_fact_110 rfl rfl ?_
                refine gf_X11_138 F dX11_fact_111 hp (v := 1564) rfl ?_
                refine v_iload F dX11_fact_114 rfl ?_
                refine v_iload F dX11_fact_116 rfl ?_
                obtain ⟨d14, ed14, h⟩ := sd_some h
                refine v_iast F dX11_fact_118 (ar_X11_23 hX hp) hi10 ?_
                refine v_nD ed14 ?_
                refine v_aload_n F dX11_fact_119 rfl rfl ?_
                refine gf_X11_126 F dX11_fact_120 hp (v := 1560) rfl ?_
                refine v_iload_n F dX11_fact_123 rfl rfl ?_
                refine v_dup2_IA F dX11_fact_124 ?_
                refine v_iald F dX11_fact_125 (ar_X11_19 hX hp) hi7 ?_
                refine v_iconst F dX11_fact_126 ⟨by decide, by decide⟩ ?_
                refine v_iadd F dX11_fact_127 ?_
                obtain ⟨d15, ed15, h⟩ := sd_some h
                refine v_iast F dX11_fact_128 (ar_X11_19 hX hp) hi7 ?_
                refine v_nD ed15 ?_
                refine v_aload_n F dX11_fact_129 rfl rfl ?_
                refine v_iconst F dX11_fact_130 ⟨by decide, by decide⟩ ?_
                refine v_iload_n F dX11_fact_131 rfl rfl ?_
                refine v_iconst F dX11_fact_132 ⟨by decide, by decide⟩ ?_
                refine v_iload_n F dX11_fact_133 rfl rfl ?_
                refine v_imul F dX11_fact_134 ?_
                refine v_iload_n F dX11_fact_135 rfl rfl ?_
                refine v_iadd F dX11_fact_136 ?_
                refine v_iload F dX11_fact_137 rfl ?_
                refine v_iload F dX11_fact_139 rfl ?_
                obtain ⟨d16, hc17, h⟩ := bd_some h
                refine v_callV0 (c := 11) F dX11_fact_141 cv_X11_22 rfl (PB.ob hp hX (Nat.le_of_ble_eq_true rfl)) (Nat.le_of_ble_eq_true rfl) rfl (vm_X11_write hp hc17) rfl (rOk.of rfl) ?_
                refine v_aload_n F dX11_fact_144 rfl rfl ?_
                refine gf_X11_126 F dX11_fact_145 hp (v := 1560) rfl ?_
                refine v_iload_n F dX11_fact_148 rfl rfl ?_
                refine v_iald F dX11_fact_149 (ar_X11_19 hX hp) hi7 ?_
                cases h
                cases (show _ = (d', r) from K)
                exact v_iret F dX11_fact_150
              · rw [if_pos hq8] at h
                refine v_bipush F dX11_fact_69 rfl ⟨by decide, by decide⟩ ?_
                cases h
                cases (show _ = (d', r) from K)
                exact v_iret F dX11_fact_71
            · rw [if_neg hq6] at h
              refine v_bipush F dX11_fact_55 rfl ⟨by decide, by decide⟩ ?_
              cases h
              cases (show _ = (d', r) from K)
              exact v_iret F dX11_fact_57
  · rw [if_pos hq1] at h
    refine v_iconst F dX11_fact_8 ⟨by decide, by decide⟩ ?_
    cases h
    cases (show _ = (d', r) from K)
    exact v_iret F dX11_fact_9
theorem vm_X13_die {w : Wd} {l : Launch} {d m : Dt} {o a1 : Int} {d' : Dt} (hp : PB m o 12) (h : fX13_die d o a1 = some d') : VM w l WF yX13_die cX13_die 2 none 0 0 0 0 d m [mA o, mI a1] none d' m := by
  obtain ⟨x, h, K⟩ : ∃ x, fX13_die d o a1 = some x ∧ x = d' := ⟨_, h, rfl⟩
  refine VM.of (L := [mA o, mI a1]) (by decide +kernel) rfl (Nat.le_of_ble_eq_true rfl) fun G F _ => v_fact fun _ hX _ _ => ?_
  unfold fX13_die at h
  refine v_aload_n F dX13_die_0 rfl rfl ?_
  refine v_iload_n F dX13_die_1 rfl rfl ?_
  obtain ⟨d1, ed1, h⟩ := sd_some h
  refine pf_X13_12 F dX13_die_2 hp ?_
  refine v_nD ed1 ?_
  refine v_aload_n F dX13_die_5 rfl rfl ?_
  refine v_iconst F dX13_die_6 ⟨by decide, by decide⟩ ?_
  obtain ⟨d2, ed2, h⟩ := sd_some h
  refine pf_X13_53 F dX13_die_7 hp (Or.inr rfl) ?_
  refine v_nD ed2 ?_
  cases h
  cases (show _ = d' from K)
  exact v_vret F dX13_die_10
theorem vm_X0_die {w : Wd} {l : Launch} {d m : Dt} {a1 a2 : Int} {d' : Dt} {r : Int} (hp : PB m 1 0) (h : fX0_die d a1 a2 = some (d', r)) : VM w l WF yX0_die cX0_die 3 (some .int) 4 115 0 0 d m [mA 1, mI a1, mI a2] (some (mI r)) d' m := by
  obtain ⟨x, h, K⟩ : ∃ x, fX0_die d a1 a2 = some x ∧ x = (d', r) := ⟨_, h, rfl⟩
  refine VM.of (L := [mA 1, mI a1, mI a2]) (by decide +kernel) rfl (Nat.le_of_ble_eq_true rfl) fun G F _ => v_fact fun _ hX _ _ => ?_
  unfold fX0_die at h
  refine v_aload_n F dX0_die_0 rfl rfl ?_
  refine v_iload_n F dX0_die_1 rfl rfl ?_
  refine v_callVv (c := 0) F dX0_die_2 cv_X0_210 rfl (PB.ob hp hX (Nat.le_of_ble_eq_true rfl)) (Nat.le_of_ble_eq_true rfl) rfl (vm_X0_isPerson hp) rfl (rOk.of rfl) ?_
  refine v_if_ne F dX0_die_5 rfl (fun hq1 => ?_) (fun hq1 => ?_)
  · rw [if_neg hq1] at h
    refine v_iload_n F dX0_die_10 rfl rfl ?_
    refine v_callSv F dX0_die_11 cs_X0_186 rfl (vm_X12_isDay) rfl (rOk.of rfl) ?_
    refine v_if_eq F dX0_die_14 rfl (fun hq2 => ?_) (fun hq2 => ?_)
    · rw [if_pos hq2] at h
      refine v_bipush F dX0_die_30 rfl ⟨by decide, by decide⟩ ?_
      cases h
      cases (show _ = (d', r) from K)
      exact v_iret F dX0_die_32
    · rw [if_neg hq2] at h
      refine v_iload_n F dX0_die_17 rfl rfl ?_
      refine v_aload_n F dX0_die_18 rfl rfl ?_
      refine gf_X0_26 F dX0_die_19 hp (v := 9) rfl ?_
      refine v_iload_n F dX0_die_22 rfl rfl ?_
      obtain ⟨hi3, h⟩ := ck_some h
      obtain ⟨x4, ex4, h⟩ := lv_some h
      obtain ⟨hn6, h⟩ := ck_some h
      refine v_aaldN (t := 109) (c := 12) F dX0_die_23 (ar_X0_4 hX hp) (Nat.le_of_ble_eq_true rfl) rfl rfl rfl rfl rfl hi3 ex4 fun hr5 => ?_
      have x4p := hr5.resolve_left hn6
      refine gf_X0_226 F dX0_die_24 x4p ?_
      refine v_icmp_ge F dX0_die_27 rfl (fun hq7 => ?_) (fun hq7 => ?_)
      · rw [if_pos hq7] at h
        refine v_aload_n F dX0_die_33 rfl rfl ?_
        refine gf_X0_26 F dX0_die_34 hp (v := 9) rfl ?_
        refine v_iload_n F dX0_die_37 rfl rfl ?_
        obtain ⟨x8, ex8, h⟩ := lv_some h
        obtain ⟨hn10, h⟩ := ck_some h
        refine v_aaldN (t := 109) (c := 12) F dX0_die_38 (ar_X0_4 hX hp) (Nat.le_of_ble_eq_true rfl) rfl rfl rfl rfl rfl hi3 ex8 fun hr9 => ?_
        have x8p := hr9.resolve_left hn10
        refine gf_X0_229 F dX0_die_39 x8p ?_
        refine v_if_eq F dX0_die_42 rfl (fun hq11 => ?_) (fun hq11 => ?_)
        · rw [if_pos hq11] at h
          refine v_aload_n F dX0_die_48 rfl rfl ?_
          refine gf_X0_26 F dX0_die_49 hp (v := 9) rfl ?_
          refine v_iload_n F dX0_die_52 rfl rfl ?_
          obtain ⟨x12, ex12, h⟩ := lv_some h
          obtain ⟨hn14, h⟩ := ck_some h
          refine v_aaldN (t := 109) (c := 12) F dX0_die_53 (ar_X0_4 hX hp) (Nat.le_of_ble_eq_true rfl) rfl rfl rfl rfl rfl hi3 ex12 fun hr13 => ?_
          have x12p := hr13.resolve_left hn14
          refine v_iload_n F dX0_die_54 rfl rfl ?_
          obtain ⟨d15, hc16, h⟩ := bd_some h
          refine v_callV0 (c := 12) F dX0_die_55 cv_X0_233 rfl (PB.ob x12p hX (Nat.le_of_ble_eq_true rfl)) (Nat.le_of_ble_eq_true rfl) rfl (vm_X13_die x12p hc16) rfl (rOk.of rfl) ?_
          refine v_aload_n F dX0_die_58 rfl rfl ?_
          refine v_bipush F dX0_die_59 rfl ⟨by decide, by decide⟩ ?_
          refine v_iload_n F dX0_die_61 rfl rfl ?_
          refine v_iload_n F dX0_die_62 rfl rfl ?_
          refine v_iconst F dX0_die_63 ⟨by decide, by decide⟩ ?_
          refine v_iconst F dX0_die_64 ⟨by decide, by decide⟩ ?_
          obtain ⟨d17, hc18, h⟩ := bd_some h
          refine v_callV0 (c := 0) F dX0_die_65 cv_X0_173 rfl (PB.ob hp hX (Nat.le_of_ble_eq_true rfl)) (Nat.le_of_ble_eq_true rfl) rfl (vm_X0_write hp hc18) rfl (rOk.of rfl) ?_
          refine v_iconst F dX0_die_68 ⟨by decide, by decide⟩ ?_
          cases h
          cases (show _ = (d', r) from K)
          exact v_iret F dX0_die_69
        · rw [if_neg hq11] at h
          refine v_bipush F dX0_die_45 rfl ⟨by decide, by decide⟩ ?_
          cases h
          cases (show _ = (d', r) from K)
          exact v_iret F dX0_die_47
      · rw [if_neg hq7] at h
        refine v_bipush F dX0_die_30 rfl ⟨by decide, by decide⟩ ?_
        cases h
        cases (show _ = (d', r) from K)
        exact v_iret F dX0_die_32
  · rw [if_pos hq1] at h
    refine v_iconst F dX0_die_8 ⟨by decide, by decide⟩ ?_
    cases h
    cases (show _ = (d', r) from K)
    exact v_iret F dX0_die_9
theorem vm_X11_die {w : Wd} {l : Launch} {d m : Dt} {a1 a2 : Int} {d' : Dt} {r : Int} (hp : PB m 1545 11) (h : fX11_die d a1 a2 = some (d', r)) : VM w l WF yX11_die cX11_die 3 (some .int) 3 73 0 0 d m [mA 1545, mI a1, mI a2] (some (mI r)) d' m := by
  obtain ⟨x, h, K⟩ : ∃ x, fX11_die d a1 a2 = some x ∧ x = (d', r) := ⟨_, h, rfl⟩
  refine VM.of (L := [mA 1545, mI a1, mI a2]) (by decide +kernel) rfl (Nat.le_of_ble_eq_true rfl) fun G F _ => v_fact fun _ hX _ _ => ?_
  unfold fX11_die at h
  refine v_aload_n F dX11_die_0 rfl rfl ?_
  refine v_iload_n F dX11_die_1 rfl rfl ?_
  refine v_callVv (c := 11) F dX11_die_2 cv_X11_110 rfl (PB.ob hp hX (Nat.le_of_ble_eq_true rfl)) (Nat.le_of_ble_eq_true rfl) rfl (vm_X11_isPerson hp) rfl (rOk.of rfl) ?_
  refine v_if_ne F dX11_die_5 rfl (fun hq1 => ?_) (fun hq1 => ?_)
  · rw [if_neg hq1] at h
    refine v_iload_n F dX11_die_10 rfl rfl ?_
    refine v_callSv F dX11_die_11 cs_X11_70 rfl (vm_X11_isDay) rfl (rOk.of rfl) ?_
    refine v_if_eq F dX11_die_14 rfl (fun hq2 => ?_) (fun hq2 => ?_)
    · rw [if_pos hq2] at h
      refine v_bipush F dX11_die_27 rfl ⟨by decide, by decide⟩ ?_
      cases h
      cases (show _ = (d', r) from K)
      exact v_iret F dX11_die_29
    · rw [if_neg hq2] at h
      refine v_iload_n F dX11_die_17 rfl rfl ?_
      refine v_aload_n F dX11_die_18 rfl rfl ?_
      refine gf_X11_95 F dX11_die_19 hp (v := 1552) rfl ?_
      refine v_iload_n F dX11_die_22 rfl rfl ?_
      obtain ⟨hi3, h⟩ := ck_some h
      refine v_iald F dX11_die_23 (ar_X11_11 hX hp) hi3 ?_
      refine v_icmp_ge F dX11_die_24 rfl (fun hq4 => ?_) (fun hq4 => ?_)
      · rw [if_pos hq4] at h
        refine v_aload_n F dX11_die_30 rfl rfl ?_
        refine gf_X11_107 F dX11_die_31 hp (v := 1556) rfl ?_
        refine v_iload_n F dX11_die_34 rfl rfl ?_
        refine v_iald F dX11_die_35 (ar_X11_15 hX hp) hi3 ?_
        refine v_ldc (n := (-2147483648)) F dX11_die_36 q2483 rfl ⟨by decide, by decide⟩ ?_
        refine v_icmp_eq F dX11_die_38 rfl (fun hq5 => ?_) (fun hq5 => ?_)
        · rw [if_pos hq5] at h
          refine v_aload_n F dX11_die_44 rfl rfl ?_
          refine gf_X11_107 F dX11_die_45 hp (v := 1556) rfl ?_
          refine v_iload_n F dX11_die_48 rfl rfl ?_
          refine v_iload_n F dX11_die_49 rfl rfl ?_
          obtain ⟨d6, ed6, h⟩ := sd_some h
          refine v_iast F dX11_die_50 (ar_X11_15 hX hp) hi3 ?_
          refine v_nD ed6 ?_
          refine v_aload_n F dX11_die_51 rfl rfl ?_
          refine v_bipush F dX11_die_52 rfl ⟨by decide, by decide⟩ ?_
          refine v_iload_n F dX11_die_54 rfl rfl ?_
          refine v_iload_n F dX11_die_55 rfl rfl ?_
          refine v_iconst F dX11_die_56 ⟨by decide, by decide⟩ ?_
          refine v_iconst F dX11_die_57 ⟨by decide, by decide⟩ ?_
          obtain ⟨d7, hc8, h⟩ := bd_some h
          refine v_callV0 (c := 11) F dX11_die_58 cv_X11_22 rfl (PB.ob hp hX (Nat.le_of_ble_eq_true rfl)) (Nat.le_of_ble_eq_true rfl) rfl (vm_X11_write hp hc8) rfl (rOk.of rfl) ?_
          refine v_iconst F dX11_die_61 ⟨by decide, by decide⟩ ?_
          cases h
          cases (show _ = (d', r) from K)
          exact v_iret F dX11_die_62
        · rw [if_neg hq5] at h
          refine v_bipush F dX11_die_41 rfl ⟨by decide, by decide⟩ ?_
          cases h
          cases (show _ = (d', r) from K)
          exact v_iret F dX11_die_43
      · rw [if_neg hq4] at h
        refine v_bipush F dX11_die_27 rfl ⟨by decide, by decide⟩ ?_
        cases h
        cases (show _ = (d', r) from K)
        exact v_iret F dX11_die_29
  · rw [if_pos hq1] at h
    refine v_iconst F dX11_die_8 ⟨by decide, by decide⟩ ?_
    cases h
    cases (show _ = (d', r) from K)
    exact v_iret F dX11_die_9
theorem fX13_birthday_23_ok {w : Wd} {l : Launch} {G : Cx} {d m dd : Dt} {o a1 a2 s0 : Int} {r : Int} {x : Int} (F : Fx w G cX13_birthday RX13 4 (some .int) { frames := 3, cells := 0, slots := 0, locals := 65 }) (hX : WF dd m) (hp : PB m o 12) (h : fX13_birthday_23 d o a1 a2 s0 = some x) (K : (fun q => q = r) x) : V w l WF G (QM w G WF (some (mI r)) d m 0 0) d m 0 0 23 [mA o, mI a1, mI a2, mU] [mI s0] := by
  unfold fX13_birthday_23 at h
  refine v_istore_n F dX13_birthday_23 rfl (Nat.le_of_ble_eq_true rfl) (L' := [mA o, mI a1, mI a2, mI s0]) rfl ?_
  refine v_iload_n F dX13_birthday_24 rfl rfl ?_
  refine v_if_ne F dX13_birthday_25 rfl (fun hq2 => ?_) (fun hq2 => ?_)
  · rw [if_neg hq2] at h
    refine v_iload_n F dX13_birthday_43 rfl rfl ?_
    refine v_if_eq F dX13_birthday_44 rfl (fun hq3 => ?_) (fun hq3 => ?_)
    · rw [if_pos hq3] at h
      refine v_iload_n F dX13_birthday_57 rfl rfl ?_
      refine v_iconst F dX13_birthday_58 ⟨by decide, by decide⟩ ?_
      refine v_iconst F dX13_birthday_59 ⟨by decide, by decide⟩ ?_
      obtain ⟨x4, hc5, h⟩ := b1_some h
      refine v_callSv F dX13_birthday_60 cs_X13_46 rfl (vm_X12_of hc5) rfl (rOk.of rfl) ?_
      cases h
      cases (show _ = r from K)
      exact v_iret F dX13_birthday_63
    · rw [if_neg hq3] at h
      refine v_iload_n F dX13_birthday_47 rfl rfl ?_
      refine v_iconst F dX13_birthday_48 ⟨by decide, by decide⟩ ?_
      refine v_bipush F dX13_birthday_49 rfl ⟨by decide, by decide⟩ ?_
      obtain ⟨x6, hc7, h⟩ := b1_some h
      refine v_callSv F dX13_birthday_51 cs_X13_46 rfl (vm_X12_of hc7) rfl (rOk.of rfl) ?_
      refine v_goto F dX13_birthday_54 rfl ?_
      cases h
      cases (show _ = r from K)
      exact v_iret F dX13_birthday_63
  · rw [if_pos hq2] at h
    refine v_iload_n F dX13_birthday_28 rfl rfl ?_
    refine v_aload_n F dX13_birthday_29 rfl rfl ?_
    refine gf_X13_40 F dX13_birthday_30 hp ?_
    refine v_aload_n F dX13_birthday_33 rfl rfl ?_
    refine gf_X13_43 F dX13_birthday_34 hp ?_
    obtain ⟨x8, hc9, h⟩ := b1_some h
    refine v_callSv F dX13_birthday_37 cs_X13_46 rfl (vm_X12_of hc9) rfl (rOk.of rfl) ?_
    refine v_goto F dX13_birthday_40 rfl ?_
    cases h
    cases (show _ = r from K)
    exact v_iret F dX13_birthday_63
theorem vm_X13_birthday {w : Wd} {l : Launch} {d m : Dt} {o a1 a2 : Int} {r : Int} (hp : PB m o 12) (h : fX13_birthday d o a1 a2 = some r) : VM w l WF yX13_birthday cX13_birthday 4 (some .int) 3 65 0 0 d m [mA o, mI a1, mI a2] (some (mI r)) d m := by
  obtain ⟨x, h, K⟩ : ∃ x, fX13_birthday d o a1 a2 = some x ∧ x = r := ⟨_, h, rfl⟩
  refine VM.of (L := [mA o, mI a1, mI a2, mU]) (by decide +kernel) rfl (Nat.le_of_ble_eq_true rfl) fun G F _ => v_fact fun _ hX _ _ => ?_
  unfold fX13_birthday at h
  refine v_iload_n F dX13_birthday_0 rfl rfl ?_
  refine v_aload_n F dX13_birthday_1 rfl rfl ?_
  refine gf_X13_40 F dX13_birthday_2 hp ?_
  refine v_aload_n F dX13_birthday_5 rfl rfl ?_
  refine gf_X13_43 F dX13_birthday_6 hp ?_
  refine v_sipush F dX13_birthday_9 rfl ⟨by decide, by decide⟩ ?_
  refine v_callSv F dX13_birthday_12 cs_X13_57 rfl (vm_X12_is) rfl (rOk.of rfl) ?_
  refine v_if_ne F dX13_birthday_15 rfl (fun hq1 => ?_) (fun hq1 => ?_)
  · rw [if_neg hq1] at h
    refine v_iconst F dX13_birthday_22 ⟨by decide, by decide⟩ ?_
    exact fX13_birthday_23_ok F hX hp h K
  · rw [if_pos hq1] at h
    refine v_iconst F dX13_birthday_18 ⟨by decide, by decide⟩ ?_
    refine v_goto F dX13_birthday_19 rfl ?_
    exact fX13_birthday_23_ok F hX hp h K
def fX13_age_12P (w : Wd) (l : Launch) (G : Cx) (Q : State → Prop) (m : Dt) (d : Dt) (o a1 a2 : Int) (s : Int) : Prop := V w l WF G Q d m 0 0 12 [mA o, mI a1, mI a2, mI (s)] []
theorem fX13_age_12f_ok {w : Wd} {l : Launch} {G : Cx} {d m dd : Dt} {o a1 a2 : Int} {r : Int} {s : Int} {x : ((Int) ⊕ Int)} (F : Fx w G cX13_age RX13 4 (some .int) { frames := 4, cells := 0, slots := 0, locals := 88 }) (hX : WF dd m) (hp : PB m o 12) (h : fX13_age_12f d o a1 a2 s = some x) (K : (Sum.elim (fX13_age_12P w l G (QM w G WF (some (mI r)) d m 0 0) m d o a1 a2) (fun q => q = r)) x) : V w l WF G (QM w G WF (some (mI r)) d m 0 0) d m 0 0 12 [mA o, mI a1, mI a2, mI (s)] [] := by
  obtain ⟨v3, rfl⟩ : ∃ z, z = s := ⟨s, rfl⟩
  unfold fX13_age_12f at h
  dsimp only at h
  refine v_aload_n F dX13_age_12 rfl rfl ?_
  refine gf_X13_37 F dX13_age_13 hp ?_
  refine v_iload_n F dX13_age_16 rfl rfl ?_
  refine v_iadd F dX13_age_17 ?_
  refine v_iconst F dX13_age_18 ⟨by decide, by decide⟩ ?_
  refine v_iadd F dX13_age_19 ?_
  refine v_sipush F dX13_age_20 rfl ⟨by decide, by decide⟩ ?_
  refine v_icmp_gt F dX13_age_23 rfl (fun hq2 => ?_) (fun hq2 => ?_)
  · rw [if_pos hq2] at h
    obtain ⟨z, hu, ez⟩ := up_some h
    clear h
    subst ez
    have h := hu
    clear hu
    refine v_iload_n F dX13_age_49 rfl rfl ?_
    cases h
    cases (show _ = r from K)
    exact v_iret F dX13_age_50
  · rw [if_neg hq2] at h
    refine v_aload_n F dX13_age_26 rfl rfl ?_
    refine v_aload_n F dX13_age_27 rfl rfl ?_
    refine gf_X13_37 F dX13_age_28 hp ?_
    refine v_iload_n F dX13_age_31 rfl rfl ?_
    refine v_iadd F dX13_age_32 ?_
    refine v_iconst F dX13_age_33 ⟨by decide, by decide⟩ ?_
    refine v_iadd F dX13_age_34 ?_
    refine v_iload_n F dX13_age_35 rfl rfl ?_
    obtain ⟨x3, hc4, h⟩ := b1_some h
    refine v_callVv (c := 12) F dX13_age_36 cv_X13_61 rfl (PB.ob hp hX (Nat.le_of_ble_eq_true rfl)) (Nat.le_of_ble_eq_true rfl) rfl (vm_X13_birthday hp hc4) rfl (rOk.of rfl) ?_
    refine v_iload_n F dX13_age_39 rfl rfl ?_
    refine v_icmp_gt F dX13_age_40 rfl (fun hq5 => ?_) (fun hq5 => ?_)
    · rw [if_pos hq5] at h
      obtain ⟨z, hu, ez⟩ := up_some h
      clear h
      subst ez
      have h := hu
      clear hu
      refine v_iload_n F dX13_age_49 rfl rfl ?_
      cases h
      cases (show _ = r from K)
      exact v_iret F dX13_age_50
    · rw [if_neg hq5] at h
      obtain ⟨x6, ex6, h⟩ := lv_some h
      refine v_iincN F dX13_age_43 (Nat.le_of_ble_eq_true rfl) rfl ex6 (L' := [mA o, mI a1, mI a2, mI x6]) rfl ?_
      refine v_goto F dX13_age_46 rfl ?_
      cases h
      exact K
theorem fX13_age_12_ok {w : Wd} {l : Launch} {G : Cx} {d m dd : Dt} {o a1 a2 v3 : Int} {r : Int} {x : Int} (F : Fx w G cX13_age RX13 4 (some .int) { frames := 4, cells := 0, slots := 0, locals := 88 }) (hX : WF dd m) (hp : PB m o 12) (h : fX13_age_12 d o a1 a2 v3 = some x) (K : (fun q => q = r) x) : V w l WF G (QM w G WF (some (mI r)) d m 0 0) d m 0 0 12 [mA o, mI a1, mI a2, mI v3] [] := by
  unfold fX13_age_12 at h
  exact loop_ok (P := fX13_age_12P w l G (QM w G WF (some (mI r)) d m 0 0) m d o a1 a2) (fun s x hx h1 h2 => fX13_age_12f_ok F hX hp hx (by
    cases x with
    | inl s' => exact h1 s' rfl
    | inr z => cases h2 z rfl; exact K)) h
theorem vm_X13_age {w : Wd} {l : Launch} {d m : Dt} {o a1 a2 : Int} {r : Int} (hp : PB m o 12) (h : fX13_age d o a1 a2 = some r) : VM w l WF yX13_age cX13_age 4 (some .int) 4 88 0 0 d m [mA o, mI a1, mI a2] (some (mI r)) d m := by
  obtain ⟨x, h, K⟩ : ∃ x, fX13_age d o a1 a2 = some x ∧ x = r := ⟨_, h, rfl⟩
  refine VM.of (L := [mA o, mI a1, mI a2, mU]) (by decide +kernel) rfl (Nat.le_of_ble_eq_true rfl) fun G F _ => v_fact fun _ hX _ _ => ?_
  unfold fX13_age at h
  refine v_iload_n F dX13_age_0 rfl rfl ?_
  refine v_aload_n F dX13_age_1 rfl rfl ?_
  refine gf_X13_50 F dX13_age_2 hp ?_
  refine v_icmp_ge F dX13_age_5 rfl (fun hq1 => ?_) (fun hq1 => ?_)
  · rw [if_pos hq1] at h
    refine v_iconst F dX13_age_10 ⟨by decide, by decide⟩ ?_
    refine v_istore_n F dX13_age_11 rfl (Nat.le_of_ble_eq_true rfl) (L' := [mA o, mI a1, mI a2, mI 0]) rfl ?_
    exact fX13_age_12_ok F hX hp h K
  · rw [if_neg hq1] at h
    refine v_iconst F dX13_age_8 ⟨by decide, by decide⟩ ?_
    cases h
    cases (show _ = r from K)
    exact v_iret F dX13_age_9
theorem fX0_age_53_ok {w : Wd} {l : Launch} {G : Cx} {d m dd : Dt} {a1 a2 s0 s1 s2 : Int} {r : Int} {x : Int} (F : Fx w G cX0_age RX0 3 (some .int) { frames := 5, cells := 0, slots := 0, locals := 111 }) (hX : WF dd m) (hp : PB m 1 0) (hs0 : PB m s0 12) (h : fX0_age_53 d a1 a2 s0 s1 s2 = some x) (K : (fun q => q = r) x) : V w l WF G (QM w G WF (some (mI r)) d m 0 0) d m 0 0 53 [mU, mU, mU] [mI s2, mI s1, mA s0] := by
  unfold fX0_age_53 at h
  obtain ⟨x8, hc9, h⟩ := b1_some h
  refine v_callVv (c := 12) F dX0_age_53 cv_X0_243 rfl (PB.ob hs0 hX (Nat.le_of_ble_eq_true rfl)) (Nat.le_of_ble_eq_true rfl) rfl (vm_X13_age hs0 hc9) rfl (rOk.of rfl) ?_
  cases h
  cases (show _ = r from K)
  exact v_iret F dX0_age_56
theorem vm_X0_age {w : Wd} {l : Launch} {d m : Dt} {a1 a2 : Int} {r : Int} (hp : PB m 1 0) (h : fX0_age d a1 a2 = some r) : VM w l WF yX0_age cX0_age 3 (some .int) 5 111 0 0 d m [mA 1, mI a1, mI a2] (some (mI r)) d m := by
  obtain ⟨x, h, K⟩ : ∃ x, fX0_age d a1 a2 = some x ∧ x = r := ⟨_, h, rfl⟩
  refine VM.of (L := [mA 1, mI a1, mI a2]) (by decide +kernel) rfl (Nat.le_of_ble_eq_true rfl) fun G F _ => v_fact fun _ hX _ _ => ?_
  unfold fX0_age at h
  refine v_aload_n F dX0_age_0 rfl rfl ?_
  refine v_iload_n F dX0_age_1 rfl rfl ?_
  refine v_callVv (c := 0) F dX0_age_2 cv_X0_210 rfl (PB.ob hp hX (Nat.le_of_ble_eq_true rfl)) (Nat.le_of_ble_eq_true rfl) rfl (vm_X0_isPerson hp) rfl (rOk.of rfl) ?_
  refine v_if_ne F dX0_age_5 rfl (fun hq1 => ?_) (fun hq1 => ?_)
  · rw [if_neg hq1] at h
    refine v_iload_n F dX0_age_12 rfl rfl ?_
    refine v_callSv F dX0_age_13 cs_X0_186 rfl (vm_X12_isDay) rfl (rOk.of rfl) ?_
    refine v_if_ne F dX0_age_16 rfl (fun hq2 => ?_) (fun hq2 => ?_)
    · rw [if_neg hq2] at h
      refine v_aload_n F dX0_age_24 rfl rfl ?_
      refine gf_X0_26 F dX0_age_25 hp (v := 9) rfl ?_
      refine v_iload_n F dX0_age_28 rfl rfl ?_
      obtain ⟨hi3, h⟩ := ck_some h
      obtain ⟨x4, ex4, h⟩ := lv_some h
      obtain ⟨hn6, h⟩ := ck_some h
      refine v_aaldN (t := 109) (c := 12) F dX0_age_29 (ar_X0_4 hX hp) (Nat.le_of_ble_eq_true rfl) rfl rfl rfl rfl rfl hi3 ex4 fun hr5 => ?_
      have x4p := hr5.resolve_left hn6
      refine v_iload_n F dX0_age_30 rfl rfl ?_
      refine v_aload_n F dX0_age_31 rfl rfl ?_
      refine gf_X0_237 F dX0_age_32 hp ?_
      refine v_if_eq F dX0_age_35 rfl (fun hq7 => ?_) (fun hq7 => ?_)
      · rw [if_pos hq7] at h
        refine v_iconst F dX0_age_52 ⟨by decide, by decide⟩ ?_
        refine v_fgt (L' := [mU, mU, mU]) ⟨Or.inr rfl, Or.inr rfl, Or.inr rfl, trivial⟩ ?_
        exact fX0_age_53_ok F hX hp x4p h K
      · rw [if_neg hq7] at h
        refine v_aload_n F dX0_age_38 rfl rfl ?_
        obtain ⟨x10, ex10, h⟩ := lv_some h
        obtain ⟨hn12, h⟩ := ck_some h
        refine gf_X0_42 F dX0_age_39 hp ex10 fun hr11 => ?_
        have x10p := hr11.resolve_left hn12
        refine gf_X0_240 F dX0_age_42 x10p ?_
        refine v_if_eq F dX0_age_45 rfl (fun hq13 => ?_) (fun hq13 => ?_)
        · rw [if_pos hq13] at h
          refine v_iconst F dX0_age_52 ⟨by decide, by decide⟩ ?_
          refine v_fgt (L' := [mU, mU, mU]) ⟨Or.inr rfl, Or.inr rfl, Or.inr rfl, trivial⟩ ?_
          exact fX0_age_53_ok F hX hp x4p h K
        · rw [if_neg hq13] at h
          refine v_iconst F dX0_age_48 ⟨by decide, by decide⟩ ?_
          refine v_goto F dX0_age_49 rfl ?_
          refine v_fgt (L' := [mU, mU, mU]) ⟨Or.inr rfl, Or.inr rfl, Or.inr rfl, trivial⟩ ?_
          exact fX0_age_53_ok F hX hp x4p h K
    · rw [if_pos hq2] at h
      refine v_bipush F dX0_age_19 rfl ⟨by decide, by decide⟩ ?_
      refine v_goto F dX0_age_21 rfl ?_
      cases h
      cases (show _ = r from K)
      exact v_iret F dX0_age_56
  · rw [if_pos hq1] at h
    refine v_iconst F dX0_age_8 ⟨by decide, by decide⟩ ?_
    refine v_goto F dX0_age_9 rfl ?_
    cases h
    cases (show _ = r from K)
    exact v_iret F dX0_age_56
def fX11_ageOn_24P (w : Wd) (l : Launch) (G : Cx) (Q : State → Prop) (m : Dt) (d : Dt) (a1 a2 : Int) (s : Int × Int) : Prop := V w l WF G Q d m 0 0 24 [mA 1545, mI a1, mI a2, mI (s.1), mI (s.2), mU, mU] []
theorem fX11_ageOn_142_ok {w : Wd} {l : Launch} {G : Cx} {d m dd : Dt} {a1 a2 v4 s0 s1 : Int} {r : Int} {x : ((Int × Int) ⊕ Int)} (F : Fx w G cX11_ageOn RX11 7 (some .int) { frames := 3, cells := 0, slots := 0, locals := 65 }) (hX : WF dd m) (hp : PB m 1545 11) (h : fX11_ageOn_142 d a1 a2 v4 s0 s1 = some x) (K : (Sum.elim (fX11_ageOn_24P w l G (QM w G WF (some (mI r)) d m 0 0) m d a1 a2) (fun q => q = r)) x) : V w l WF G (QM w G WF (some (mI r)) d m 0 0) d m 0 0 142 [mA 1545, mI a1, mI a2, mU, mI v4, mU, mU] [mI s1, mI s0] := by
  unfold fX11_ageOn_142 at h
  refine v_iadd F dX11_ageOn_142 ?_
  obtain ⟨x12, ex12, h⟩ := lv_some h
  refine v_nI ex12 ?_
  refine v_istore_n F dX11_ageOn_143 rfl (Nat.le_of_ble_eq_true rfl) (L' := [mA 1545, mI a1, mI a2, mI x12, mI v4, mU, mU]) rfl ?_
  obtain ⟨x13, ex13, h⟩ := lv_some h
  refine v_iincN F dX11_ageOn_144 (Nat.le_of_ble_eq_true rfl) rfl ex13 (L' := [mA 1545, mI a1, mI a2, mI x12, mI x13, mU, mU]) rfl ?_
  refine v_goto F dX11_ageOn_147 rfl ?_
  cases h
  exact K
theorem fX11_ageOn_128_ok {w : Wd} {l : Launch} {G : Cx} {d m dd : Dt} {a1 a2 v3 v4 s0 : Int} {r : Int} {x : ((Int × Int) ⊕ Int)} (F : Fx w G cX11_ageOn RX11 7 (some .int) { frames := 3, cells := 0, slots := 0, locals := 65 }) (hX : WF dd m) (hp : PB m 1545 11) (h : fX11_ageOn_128 d a1 a2 v3 v4 s0 = some x) (K : (Sum.elim (fX11_ageOn_24P w l G (QM w G WF (some (mI r)) d m 0 0) m d a1 a2) (fun q => q = r)) x) : V w l WF G (QM w G WF (some (mI r)) d m 0 0) d m 0 0 128 [mA 1545, mI a1, mI a2, mI v3, mI v4, mU, mU] [mI s0] := by
  unfold fX11_ageOn_128 at h
  refine v_istore F dX11_ageOn_128 (Nat.le_of_ble_eq_true rfl) (L' := [mA 1545, mI a1, mI a2, mI v3, mI v4, mU, mI s0]) rfl ?_
  refine v_iload_n F dX11_ageOn_130 rfl rfl ?_
  refine v_iload F dX11_ageOn_131 rfl ?_
  refine v_iload_n F dX11_ageOn_133 rfl rfl ?_
  refine v_icmp_gt F dX11_ageOn_134 rfl (fun hq11 => ?_) (fun hq11 => ?_)
  · rw [if_pos hq11] at h
    refine v_iconst F dX11_ageOn_141 ⟨by decide, by decide⟩ ?_
    refine v_fgt (L' := [mA 1545, mI a1, mI a2, mU, mI v4, mU, mU]) ⟨Or.inl rfl, Or.inl rfl, Or.inl rfl, Or.inr rfl, Or.inl rfl, Or.inl rfl, Or.inr rfl, trivial⟩ ?_
    exact fX11_ageOn_142_ok F hX hp h K
  · rw [if_neg hq11] at h
    refine v_iconst F dX11_ageOn_137 ⟨by decide, by decide⟩ ?_
    refine v_goto F dX11_ageOn_138 rfl ?_
    refine v_fgt (L' := [mA 1545, mI a1, mI a2, mU, mI v4, mU, mU]) ⟨Or.inl rfl, Or.inl rfl, Or.inl rfl, Or.inr rfl, Or.inl rfl, Or.inl rfl, Or.inr rfl, trivial⟩ ?_
    exact fX11_ageOn_142_ok F hX hp h K
theorem fX11_ageOn_121_ok {w : Wd} {l : Launch} {G : Cx} {d m dd : Dt} {a1 a2 v3 v4 : Int} {r : Int} {x : ((Int × Int) ⊕ Int)} (F : Fx w G cX11_ageOn RX11 7 (some .int) { frames := 3, cells := 0, slots := 0, locals := 65 }) (hX : WF dd m) (hp : PB m 1545 11) (h : fX11_ageOn_121 d a1 a2 v3 v4 = some x) (K : (Sum.elim (fX11_ageOn_24P w l G (QM w G WF (some (mI r)) d m 0 0) m d a1 a2) (fun q => q = r)) x) : V w l WF G (QM w G WF (some (mI r)) d m 0 0) d m 0 0 121 [mA 1545, mI a1, mI a2, mI v3, mI v4, mU, mU] [] := by
  unfold fX11_ageOn_121 at h
  refine v_iload F dX11_ageOn_121 rfl ?_
  refine v_iconst F dX11_ageOn_123 ⟨by decide, by decide⟩ ?_
  refine v_iconst F dX11_ageOn_124 ⟨by decide, by decide⟩ ?_
  obtain ⟨x9, hc10, h⟩ := b1_some h
  refine v_callSv F dX11_ageOn_125 cs_X11_48 rfl (vm_X11_dayOf hc10) rfl (rOk.of rfl) ?_
  exact fX11_ageOn_128_ok F hX hp h K
theorem fX11_ageOn_69_ok {w : Wd} {l : Launch} {G : Cx} {d m dd : Dt} {a1 a2 v3 v4 s0 : Int} {r : Int} {x : ((Int × Int) ⊕ Int)} (F : Fx w G cX11_ageOn RX11 7 (some .int) { frames := 3, cells := 0, slots := 0, locals := 65 }) (hX : WF dd m) (hp : PB m 1545 11) (h : fX11_ageOn_69 d a1 a2 v3 v4 s0 = some x) (K : (Sum.elim (fX11_ageOn_24P w l G (QM w G WF (some (mI r)) d m 0 0) m d a1 a2) (fun q => q = r)) x) : V w l WF G (QM w G WF (some (mI r)) d m 0 0) d m 0 0 69 [mA 1545, mI a1, mI a2, mI v3, mI v4, mU, mU] [mI s0] := by
  unfold fX11_ageOn_69 at h
  refine v_istore F dX11_ageOn_69 (Nat.le_of_ble_eq_true rfl) (L' := [mA 1545, mI a1, mI a2, mI v3, mI v4, mI s0, mU]) rfl ?_
  refine v_iload F dX11_ageOn_71 rfl ?_
  refine v_if_ne F dX11_ageOn_73 rfl (fun hq7 => ?_) (fun hq7 => ?_)
  · rw [if_neg hq7] at h
    refine v_aload_n F dX11_ageOn_96 rfl rfl ?_
    refine gf_X11_141 F dX11_ageOn_97 hp ?_
    refine v_if_eq F dX11_ageOn_100 rfl (fun hq8 => ?_) (fun hq8 => ?_)
    · rw [if_pos hq8] at h
      refine v_fgt (L' := [mA 1545, mI a1, mI a2, mI v3, mI v4, mU, mU]) ⟨Or.inl rfl, Or.inl rfl, Or.inl rfl, Or.inl rfl, Or.inl rfl, Or.inr rfl, Or.inl rfl, trivial⟩ ?_
      exact fX11_ageOn_121_ok F hX hp h K
    · rw [if_neg hq8] at h
      refine v_aload_n F dX11_ageOn_103 rfl rfl ?_
      refine gf_X11_145 F dX11_ageOn_104 hp ?_
      refine v_if_eq F dX11_ageOn_107 rfl (fun hq14 => ?_) (fun hq14 => ?_)
      · rw [if_pos hq14] at h
        refine v_fgt (L' := [mA 1545, mI a1, mI a2, mI v3, mI v4, mU, mU]) ⟨Or.inl rfl, Or.inl rfl, Or.inl rfl, Or.inl rfl, Or.inl rfl, Or.inr rfl, Or.inl rfl, trivial⟩ ?_
        exact fX11_ageOn_121_ok F hX hp h K
      · rw [if_neg hq14] at h
        refine v_iload F dX11_ageOn_110 rfl ?_
        refine v_iconst F dX11_ageOn_112 ⟨by decide, by decide⟩ ?_
        refine v_bipush F dX11_ageOn_113 rfl ⟨by decide, by decide⟩ ?_
        obtain ⟨x15, hc16, h⟩ := b1_some h
        refine v_callSv F dX11_ageOn_115 cs_X11_48 rfl (vm_X11_dayOf hc16) rfl (rOk.of rfl) ?_
        refine v_goto F dX11_ageOn_118 rfl ?_
        refine v_fgt (L' := [mA 1545, mI a1, mI a2, mI v3, mI v4, mU, mU]) ⟨Or.inl rfl, Or.inl rfl, Or.inl rfl, Or.inl rfl, Or.inl rfl, Or.inr rfl, Or.inl rfl, trivial⟩ ?_
        exact fX11_ageOn_128_ok F hX hp h K
  · rw [if_pos hq7] at h
    refine v_iload F dX11_ageOn_76 rfl ?_
    refine v_aload_n F dX11_ageOn_78 rfl rfl ?_
    refine gf_X11_101 F dX11_ageOn_79 hp (v := 1554) rfl ?_
    refine v_iload_n F dX11_ageOn_82 rfl rfl ?_
    obtain ⟨hi17, h⟩ := ck_some h
    refine v_iald F dX11_ageOn_83 (ar_X11_13 hX hp) hi17 ?_
    refine v_aload_n F dX11_ageOn_84 rfl rfl ?_
    refine gf_X11_104 F dX11_ageOn_85 hp (v := 1555) rfl ?_
    refine v_iload_n F dX11_ageOn_88 rfl rfl ?_
    refine v_iald F dX11_ageOn_89 (ar_X11_14 hX hp) hi17 ?_
    obtain ⟨x18, hc19, h⟩ := b1_some h
    refine v_callSv F dX11_ageOn_90 cs_X11_48 rfl (vm_X11_dayOf hc19) rfl (rOk.of rfl) ?_
    refine v_goto F dX11_ageOn_93 rfl ?_
    refine v_fgt (L' := [mA 1545, mI a1, mI a2, mI v3, mI v4, mU, mU]) ⟨Or.inl rfl, Or.inl rfl, Or.inl rfl, Or.inl rfl, Or.inl rfl, Or.inr rfl, Or.inl rfl, trivial⟩ ?_
    exact fX11_ageOn_128_ok F hX hp h K
theorem fX11_ageOn_24f_ok {w : Wd} {l : Launch} {G : Cx} {d m dd : Dt} {a1 a2 : Int} {r : Int} {s : Int × Int} {x : ((Int × Int) ⊕ Int)} (F : Fx w G cX11_ageOn RX11 7 (some .int) { frames := 3, cells := 0, slots := 0, locals := 65 }) (hX : WF dd m) (hp : PB m 1545 11) (h : fX11_ageOn_24f d a1 a2 s = some x) (K : (Sum.elim (fX11_ageOn_24P w l G (QM w G WF (some (mI r)) d m 0 0) m d a1 a2) (fun q => q = r)) x) : V w l WF G (QM w G WF (some (mI r)) d m 0 0) d m 0 0 24 [mA 1545, mI a1, mI a2, mI (s.1), mI (s.2), mU, mU] [] := by
  obtain ⟨v3, v4⟩ := s
  unfold fX11_ageOn_24f at h
  dsimp only at h
  refine v_iload F dX11_ageOn_24 rfl ?_
  refine v_sipush F dX11_ageOn_26 rfl ⟨by decide, by decide⟩ ?_
  refine v_icmp_gt F dX11_ageOn_29 rfl (fun hq4 => ?_) (fun hq4 => ?_)
  · rw [if_pos hq4] at h
    obtain ⟨z, hu, ez⟩ := up_some h
    clear h
    subst ez
    have h := hu
    clear hu
    refine v_iload_n F dX11_ageOn_150 rfl rfl ?_
    cases h
    cases (show _ = r from K)
    exact v_iret F dX11_ageOn_151
  · rw [if_neg hq4] at h
    refine v_aload_n F dX11_ageOn_32 rfl rfl ?_
    refine gf_X11_101 F dX11_ageOn_33 hp (v := 1554) rfl ?_
    refine v_iload_n F dX11_ageOn_36 rfl rfl ?_
    obtain ⟨hi5, h⟩ := ck_some h
    refine v_iald F dX11_ageOn_37 (ar_X11_13 hX hp) hi5 ?_
    refine v_iconst F dX11_ageOn_38 ⟨by decide, by decide⟩ ?_
    refine v_icmp_ne F dX11_ageOn_39 rfl (fun hq6 => ?_) (fun hq6 => ?_)
    · rw [if_neg hq6] at h
      refine v_iconst F dX11_ageOn_68 ⟨by decide, by decide⟩ ?_
      exact fX11_ageOn_69_ok F hX hp h K
    · rw [if_pos hq6] at h
      refine v_aload_n F dX11_ageOn_42 rfl rfl ?_
      refine gf_X11_104 F dX11_ageOn_43 hp (v := 1555) rfl ?_
      refine v_iload_n F dX11_ageOn_46 rfl rfl ?_
      refine v_iald F dX11_ageOn_47 (ar_X11_14 hX hp) hi5 ?_
      refine v_bipush F dX11_ageOn_48 rfl ⟨by decide, by decide⟩ ?_
      refine v_icmp_ne F dX11_ageOn_50 rfl (fun hq20 => ?_) (fun hq20 => ?_)
      · rw [if_neg hq20] at h
        refine v_iconst F dX11_ageOn_68 ⟨by decide, by decide⟩ ?_
        exact fX11_ageOn_69_ok F hX hp h K
      · rw [if_pos hq20] at h
        refine v_iload F dX11_ageOn_53 rfl ?_
        refine v_callSv F dX11_ageOn_55 cs_X11_28 rfl (vm_X11_yearDays) rfl (rOk.of rfl) ?_
        refine v_sipush F dX11_ageOn_58 rfl ⟨by decide, by decide⟩ ?_
        refine v_icmp_ne F dX11_ageOn_61 rfl (fun hq21 => ?_) (fun hq21 => ?_)
        · rw [if_neg hq21] at h
          refine v_iconst F dX11_ageOn_68 ⟨by decide, by decide⟩ ?_
          exact fX11_ageOn_69_ok F hX hp h K
        · rw [if_pos hq21] at h
          refine v_iconst F dX11_ageOn_64 ⟨by decide, by decide⟩ ?_
          refine v_goto F dX11_ageOn_65 rfl ?_
          exact fX11_ageOn_69_ok F hX hp h K
theorem fX11_ageOn_24_ok {w : Wd} {l : Launch} {G : Cx} {d m dd : Dt} {a1 a2 v3 v4 : Int} {r : Int} {x : Int} (F : Fx w G cX11_ageOn RX11 7 (some .int) { frames := 3, cells := 0, slots := 0, locals := 65 }) (hX : WF dd m) (hp : PB m 1545 11) (h : fX11_ageOn_24 d a1 a2 v3 v4 = some x) (K : (fun q => q = r) x) : V w l WF G (QM w G WF (some (mI r)) d m 0 0) d m 0 0 24 [mA 1545, mI a1, mI a2, mI v3, mI v4, mU, mU] [] := by
  unfold fX11_ageOn_24 at h
  exact loop_ok (P := fX11_ageOn_24P w l G (QM w G WF (some (mI r)) d m 0 0) m d a1 a2) (fun s x hx h1 h2 => fX11_ageOn_24f_ok F hX hp hx (by
    cases x with
    | inl s' => exact h1 s' rfl
    | inr z => cases h2 z rfl; exact K)) h
theorem vm_X11_ageOn {w : Wd} {l : Launch} {d m : Dt} {a1 a2 : Int} {r : Int} (hp : PB m 1545 11) (h : fX11_ageOn d a1 a2 = some r) : VM w l WF yX11_ageOn cX11_ageOn 7 (some .int) 3 65 0 0 d m [mA 1545, mI a1, mI a2] (some (mI r)) d m := by
  obtain ⟨x, h, K⟩ : ∃ x, fX11_ageOn d a1 a2 = some x ∧ x = r := ⟨_, h, rfl⟩
  refine VM.of (L := [mA 1545, mI a1, mI a2, mU, mU, mU, mU]) (by decide +kernel) rfl (Nat.le_of_ble_eq_true rfl) fun G F _ => v_fact fun _ hX _ _ => ?_
  unfold fX11_ageOn at h
  refine v_iload_n F dX11_ageOn_0 rfl rfl ?_
  refine v_aload_n F dX11_ageOn_1 rfl rfl ?_
  refine gf_X11_95 F dX11_ageOn_2 hp (v := 1552) rfl ?_
  refine v_iload_n F dX11_ageOn_5 rfl rfl ?_
  obtain ⟨hi1, h⟩ := ck_some h
  refine v_iald F dX11_ageOn_6 (ar_X11_11 hX hp) hi1 ?_
  refine v_icmp_ge F dX11_ageOn_7 rfl (fun hq2 => ?_) (fun hq2 => ?_)
  · rw [if_pos hq2] at h
    refine v_iconst F dX11_ageOn_12 ⟨by decide, by decide⟩ ?_
    refine v_istore_n F dX11_ageOn_13 rfl (Nat.le_of_ble_eq_true rfl) (L' := [mA 1545, mI a1, mI a2, mI 0, mU, mU, mU]) rfl ?_
    refine v_aload_n F dX11_ageOn_14 rfl rfl ?_
    refine gf_X11_98 F dX11_ageOn_15 hp (v := 1553) rfl ?_
    refine v_iload_n F dX11_ageOn_18 rfl rfl ?_
    refine v_iald F dX11_ageOn_19 (ar_X11_12 hX hp) hi1 ?_
    refine v_iconst F dX11_ageOn_20 ⟨by decide, by decide⟩ ?_
    refine v_iadd F dX11_ageOn_21 ?_
    obtain ⟨x3, ex3, h⟩ := lv_some h
    refine v_nI ex3 ?_
    refine v_istore F dX11_ageOn_22 (Nat.le_of_ble_eq_true rfl) (L' := [mA 1545, mI a1, mI a2, mI 0, mI x3, mU, mU]) rfl ?_
    exact fX11_ageOn_24_ok F hX hp h K
  · rw [if_neg hq2] at h
    refine v_iconst F dX11_ageOn_10 ⟨by decide, by decide⟩ ?_
    cases h
    cases (show _ = r from K)
    exact v_iret F dX11_ageOn_11
theorem vm_X11_age {w : Wd} {l : Launch} {d m : Dt} {a1 a2 : Int} {r : Int} (hp : PB m 1545 11) (h : fX11_age d a1 a2 = some r) : VM w l WF yX11_age cX11_age 3 (some .int) 4 91 0 0 d m [mA 1545, mI a1, mI a2] (some (mI r)) d m := by
  obtain ⟨x, h, K⟩ : ∃ x, fX11_age d a1 a2 = some x ∧ x = r := ⟨_, h, rfl⟩
  refine VM.of (L := [mA 1545, mI a1, mI a2]) (by decide +kernel) rfl (Nat.le_of_ble_eq_true rfl) fun G F _ => v_fact fun _ hX _ _ => ?_
  unfold fX11_age at h
  refine v_aload_n F dX11_age_0 rfl rfl ?_
  refine v_iload_n F dX11_age_1 rfl rfl ?_
  refine v_callVv (c := 11) F dX11_age_2 cv_X11_110 rfl (PB.ob hp hX (Nat.le_of_ble_eq_true rfl)) (Nat.le_of_ble_eq_true rfl) rfl (vm_X11_isPerson hp) rfl (rOk.of rfl) ?_
  refine v_if_ne F dX11_age_5 rfl (fun hq1 => ?_) (fun hq1 => ?_)
  · rw [if_neg hq1] at h
    refine v_iload_n F dX11_age_12 rfl rfl ?_
    refine v_callSv F dX11_age_13 cs_X11_70 rfl (vm_X11_isDay) rfl (rOk.of rfl) ?_
    refine v_if_ne F dX11_age_16 rfl (fun hq2 => ?_) (fun hq2 => ?_)
    · rw [if_neg hq2] at h
      refine v_aload_n F dX11_age_24 rfl rfl ?_
      refine v_iload_n F dX11_age_25 rfl rfl ?_
      refine v_iload_n F dX11_age_26 rfl rfl ?_
      obtain ⟨x3, hc4, h⟩ := b1_some h
      refine v_callVv (c := 11) F dX11_age_27 cv_X11_148 rfl (PB.ob hp hX (Nat.le_of_ble_eq_true rfl)) (Nat.le_of_ble_eq_true rfl) rfl (vm_X11_ageOn hp hc4) rfl (rOk.of rfl) ?_
      cases h
      cases (show _ = r from K)
      exact v_iret F dX11_age_30
    · rw [if_pos hq2] at h
      refine v_bipush F dX11_age_19 rfl ⟨by decide, by decide⟩ ?_
      refine v_goto F dX11_age_21 rfl ?_
      cases h
      cases (show _ = r from K)
      exact v_iret F dX11_age_30
  · rw [if_pos hq1] at h
    refine v_iconst F dX11_age_8 ⟨by decide, by decide⟩ ?_
    refine v_goto F dX11_age_9 rfl ?_
    cases h
    cases (show _ = r from K)
    exact v_iret F dX11_age_30
def fX13_address_7P (w : Wd) (l : Launch) (G : Cx) (Q : State → Prop) (m : Dt) (d : Dt) (o a1 : Int) (s : Int) : Prop := V w l WF G Q d m 0 0 7 [mA o, mI a1, mI (s)] []
theorem fX13_address_27_ok {w : Wd} {l : Launch} {G : Cx} {d m dd : Dt} {o a1 v2 : Int} {r : Int} {x : Int} (F : Fx w G cX13_address RX13 3 (some .int) { frames := 0, cells := 0, slots := 0, locals := 0 }) (hX : WF dd m) (hp : PB m o 12) (h : fX13_address_27 d o a1 v2 = some x) (K : (fun q => q = r) x) : V w l WF G (QM w G WF (some (mI r)) d m 0 0) d m 0 0 27 [mA o, mU, mI v2] [] := by
  unfold fX13_address_27 at h
  refine v_iload_n F dX13_address_27 rfl rfl ?_
  refine v_if_ge F dX13_address_28 rfl (fun hq3 => ?_) (fun hq3 => ?_)
  · rw [if_pos hq3] at h
    refine v_aload_n F dX13_address_35 rfl rfl ?_
    refine gf_X13_22 F dX13_address_36 hp (v := (o + 2)) rfl ?_
    refine v_iload_n F dX13_address_39 rfl rfl ?_
    obtain ⟨hi4, h⟩ := ck_some h
    refine v_iald F dX13_address_40 (ar_X13_7 hX hp) hi4 ?_
    cases h
    cases (show _ = r from K)
    exact v_iret F dX13_address_41
  · rw [if_neg hq3] at h
    refine v_iconst F dX13_address_31 ⟨by decide, by decide⟩ ?_
    refine v_goto F dX13_address_32 rfl ?_
    cases h
    cases (show _ = r from K)
    exact v_iret F dX13_address_41
theorem fX13_address_7f_ok {w : Wd} {l : Launch} {G : Cx} {d m dd : Dt} {o a1 : Int} {r : Int} {s : Int} {x : ((Int) ⊕ Int)} (F : Fx w G cX13_address RX13 3 (some .int) { frames := 0, cells := 0, slots := 0, locals := 0 }) (hX : WF dd m) (hp : PB m o 12) (h : fX13_address_7f d o a1 s = some x) (K : (Sum.elim (fX13_address_7P w l G (QM w G WF (some (mI r)) d m 0 0) m d o a1) (fun q => q = r)) x) : V w l WF G (QM w G WF (some (mI r)) d m 0 0) d m 0 0 7 [mA o, mI a1, mI (s)] [] := by
  obtain ⟨v2, rfl⟩ : ∃ z, z = s := ⟨s, rfl⟩
  unfold fX13_address_7f at h
  dsimp only at h
  refine v_iload_n F dX13_address_7 rfl rfl ?_
  refine v_if_lt F dX13_address_8 rfl (fun hq2 => ?_) (fun hq2 => ?_)
  · rw [if_pos hq2] at h
    obtain ⟨z, hu, ez⟩ := up_some h
    clear h
    subst ez
    have h := hu
    clear hu
    refine v_fgt (L' := [mA o, mU, mI v2]) ⟨Or.inl rfl, Or.inr rfl, Or.inl rfl, trivial⟩ ?_
    exact fX13_address_27_ok F hX hp h K
  · rw [if_neg hq2] at h
    refine v_aload_n F dX13_address_11 rfl rfl ?_
    refine gf_X13_18 F dX13_address_12 hp (v := (o + 1)) rfl ?_
    refine v_iload_n F dX13_address_15 rfl rfl ?_
    obtain ⟨hi5, h⟩ := ck_some h
    refine v_iald F dX13_address_16 (ar_X13_6 hX hp) hi5 ?_
    refine v_iload_n F dX13_address_17 rfl rfl ?_
    refine v_icmp_le F dX13_address_18 rfl (fun hq6 => ?_) (fun hq6 => ?_)
    · rw [if_pos hq6] at h
      obtain ⟨z, hu, ez⟩ := up_some h
      clear h
      subst ez
      have h := hu
      clear hu
      refine v_fgt (L' := [mA o, mU, mI v2]) ⟨Or.inl rfl, Or.inr rfl, Or.inl rfl, trivial⟩ ?_
      exact fX13_address_27_ok F hX hp h K
    · rw [if_neg hq6] at h
      obtain ⟨x7, ex7, h⟩ := lv_some h
      refine v_iincN F dX13_address_21 (Nat.le_of_ble_eq_true rfl) rfl ex7 (L' := [mA o, mI a1, mI x7]) rfl ?_
      refine v_goto F dX13_address_24 rfl ?_
      cases h
      exact K
theorem fX13_address_7_ok {w : Wd} {l : Launch} {G : Cx} {d m dd : Dt} {o a1 v2 : Int} {r : Int} {x : Int} (F : Fx w G cX13_address RX13 3 (some .int) { frames := 0, cells := 0, slots := 0, locals := 0 }) (hX : WF dd m) (hp : PB m o 12) (h : fX13_address_7 d o a1 v2 = some x) (K : (fun q => q = r) x) : V w l WF G (QM w G WF (some (mI r)) d m 0 0) d m 0 0 7 [mA o, mI a1, mI v2] [] := by
  unfold fX13_address_7 at h
  exact loop_ok (P := fX13_address_7P w l G (QM w G WF (some (mI r)) d m 0 0) m d o a1) (fun s x hx h1 h2 => fX13_address_7f_ok F hX hp hx (by
    cases x with
    | inl s' => exact h1 s' rfl
    | inr z => cases h2 z rfl; exact K)) h
theorem vm_X13_address {w : Wd} {l : Launch} {d m : Dt} {o a1 : Int} {r : Int} (hp : PB m o 12) (h : fX13_address d o a1 = some r) : VM w l WF yX13_address cX13_address 3 (some .int) 0 0 0 0 d m [mA o, mI a1] (some (mI r)) d m := by
  obtain ⟨x, h, K⟩ : ∃ x, fX13_address d o a1 = some x ∧ x = r := ⟨_, h, rfl⟩
  refine VM.of (L := [mA o, mI a1, mU]) (by decide +kernel) rfl (Nat.le_of_ble_eq_true rfl) fun G F _ => v_fact fun _ hX _ _ => ?_
  unfold fX13_address at h
  refine v_aload_n F dX13_address_0 rfl rfl ?_
  refine gf_X13_65 F dX13_address_1 hp ?_
  refine v_iconst F dX13_address_4 ⟨by decide, by decide⟩ ?_
  refine v_isub F dX13_address_5 ?_
  obtain ⟨x1, ex1, h⟩ := lv_some h
  refine v_nI ex1 ?_
  refine v_istore_n F dX13_address_6 rfl (Nat.le_of_ble_eq_true rfl) (L' := [mA o, mI a1, mI x1]) rfl ?_
  exact fX13_address_7_ok F hX hp h K
theorem vm_X0_addressOf {w : Wd} {l : Launch} {d m : Dt} {a1 a2 : Int} {r : Int} (hp : PB m 1 0) (h : fX0_addressOf d a1 a2 = some r) : VM w l WF yX0_addressOf cX0_addressOf 3 (some .int) 2 43 0 0 d m [mA 1, mI a1, mI a2] (some (mI r)) d m := by
  obtain ⟨x, h, K⟩ : ∃ x, fX0_addressOf d a1 a2 = some x ∧ x = r := ⟨_, h, rfl⟩
  refine VM.of (L := [mA 1, mI a1, mI a2]) (by decide +kernel) rfl (Nat.le_of_ble_eq_true rfl) fun G F _ => v_fact fun _ hX _ _ => ?_
  unfold fX0_addressOf at h
  refine v_aload_n F dX0_addressOf_0 rfl rfl ?_
  refine v_iload_n F dX0_addressOf_1 rfl rfl ?_
  refine v_callVv (c := 0) F dX0_addressOf_2 cv_X0_210 rfl (PB.ob hp hX (Nat.le_of_ble_eq_true rfl)) (Nat.le_of_ble_eq_true rfl) rfl (vm_X0_isPerson hp) rfl (rOk.of rfl) ?_
  refine v_if_ne F dX0_addressOf_5 rfl (fun hq1 => ?_) (fun hq1 => ?_)
  · rw [if_neg hq1] at h
    refine v_iload_n F dX0_addressOf_12 rfl rfl ?_
    refine v_callSv F dX0_addressOf_13 cs_X0_186 rfl (vm_X12_isDay) rfl (rOk.of rfl) ?_
    refine v_if_ne F dX0_addressOf_16 rfl (fun hq2 => ?_) (fun hq2 => ?_)
    · rw [if_neg hq2] at h
      refine v_aload_n F dX0_addressOf_24 rfl rfl ?_
      refine gf_X0_26 F dX0_addressOf_25 hp (v := 9) rfl ?_
      refine v_iload_n F dX0_addressOf_28 rfl rfl ?_
      obtain ⟨hi3, h⟩ := ck_some h
      obtain ⟨x4, ex4, h⟩ := lv_some h
      obtain ⟨hn6, h⟩ := ck_some h
      refine v_aaldN (t := 109) (c := 12) F dX0_addressOf_29 (ar_X0_4 hX hp) (Nat.le_of_ble_eq_true rfl) rfl rfl rfl rfl rfl hi3 ex4 fun hr5 => ?_
      have x4p := hr5.resolve_left hn6
      refine v_iload_n F dX0_addressOf_30 rfl rfl ?_
      obtain ⟨x7, hc8, h⟩ := b1_some h
      refine v_callVv (c := 12) F dX0_addressOf_31 cv_X0_247 rfl (PB.ob x4p hX (Nat.le_of_ble_eq_true rfl)) (Nat.le_of_ble_eq_true rfl) rfl (vm_X13_address x4p hc8) rfl (rOk.of rfl) ?_
      cases h
      cases (show _ = r from K)
      exact v_iret F dX0_addressOf_34
    · rw [if_pos hq2] at h
      refine v_bipush F dX0_addressOf_19 rfl ⟨by decide, by decide⟩ ?_
      refine v_goto F dX0_addressOf_21 rfl ?_
      cases h
      cases (show _ = r from K)
      exact v_iret F dX0_addressOf_34
  · rw [if_pos hq1] at h
    refine v_iconst F dX0_addressOf_8 ⟨by decide, by decide⟩ ?_
    refine v_goto F dX0_addressOf_9 rfl ?_
    cases h
    cases (show _ = r from K)
    exact v_iret F dX0_addressOf_34
def fX11_addressOn_8P (w : Wd) (l : Launch) (G : Cx) (Q : State → Prop) (m : Dt) (d : Dt) (a1 a2 : Int) (s : Int × Int) : Prop := V w l WF G Q d m 0 0 8 [mA 1545, mI a1, mI a2, mI (s.1), mI (s.2)] []
theorem fX11_addressOn_8f_ok {w : Wd} {l : Launch} {G : Cx} {d m dd : Dt} {a1 a2 : Int} {r : Int} {s : Int × Int} {x : ((Int × Int) ⊕ Int)} (F : Fx w G cX11_addressOn RX11 5 (some .int) { frames := 0, cells := 0, slots := 0, locals := 0 }) (hX : WF dd m) (hp : PB m 1545 11) (h : fX11_addressOn_8f d a1 a2 s = some x) (K : (Sum.elim (fX11_addressOn_8P w l G (QM w G WF (some (mI r)) d m 0 0) m d a1 a2) (fun q => q = r)) x) : V w l WF G (QM w G WF (some (mI r)) d m 0 0) d m 0 0 8 [mA 1545, mI a1, mI a2, mI (s.1), mI (s.2)] [] := by
  obtain ⟨v3, v4⟩ := s
  unfold fX11_addressOn_8f at h
  dsimp only at h
  refine v_iload F dX11_addressOn_8 rfl ?_
  refine v_bipush F dX11_addressOn_10 rfl ⟨by decide, by decide⟩ ?_
  refine v_iload_n F dX11_addressOn_12 rfl rfl ?_
  refine v_imul F dX11_addressOn_13 ?_
  refine v_aload_n F dX11_addressOn_14 rfl rfl ?_
  refine gf_X11_115 F dX11_addressOn_15 hp (v := 1557) rfl ?_
  refine v_iload_n F dX11_addressOn_18 rfl rfl ?_
  obtain ⟨hi2, h⟩ := ck_some h
  refine v_iald F dX11_addressOn_19 (ar_X11_16 hX hp) hi2 ?_
  refine v_iadd F dX11_addressOn_20 ?_
  refine v_icmp_ge F dX11_addressOn_21 rfl (fun hq3 => ?_) (fun hq3 => ?_)
  · rw [if_pos hq3] at h
    obtain ⟨z, hu, ez⟩ := up_some h
    clear h
    subst ez
    have h := hu
    clear hu
    refine v_iload_n F dX11_addressOn_64 rfl rfl ?_
    refine v_if_ge F dX11_addressOn_65 rfl (fun hq4 => ?_) (fun hq4 => ?_)
    · rw [if_pos hq4] at h
      refine v_aload_n F dX11_addressOn_72 rfl rfl ?_
      refine gf_X11_121 F dX11_addressOn_73 hp (v := 1559) rfl ?_
      refine v_iload_n F dX11_addressOn_76 rfl rfl ?_
      obtain ⟨hi5, h⟩ := ck_some h
      refine v_iald F dX11_addressOn_77 (ar_X11_18 hX hp) hi5 ?_
      cases h
      cases (show _ = r from K)
      exact v_iret F dX11_addressOn_78
    · rw [if_neg hq4] at h
      refine v_iconst F dX11_addressOn_68 ⟨by decide, by decide⟩ ?_
      refine v_goto F dX11_addressOn_69 rfl ?_
      cases h
      cases (show _ = r from K)
      exact v_iret F dX11_addressOn_78
  · rw [if_neg hq3] at h
    refine v_aload_n F dX11_addressOn_24 rfl rfl ?_
    refine gf_X11_118 F dX11_addressOn_25 hp (v := 1558) rfl ?_
    refine v_iload F dX11_addressOn_28 rfl ?_
    obtain ⟨hi6, h⟩ := ck_some h
    refine v_iald F dX11_addressOn_30 (ar_X11_17 hX hp) hi6 ?_
    refine v_iload_n F dX11_addressOn_31 rfl rfl ?_
    refine v_icmp_gt F dX11_addressOn_32 rfl (fun hq7 => ?_) (fun hq7 => ?_)
    · rw [if_pos hq7] at h
      obtain ⟨x8, ex8, h⟩ := lv_some h
      refine v_iincN F dX11_addressOn_58 (Nat.le_of_ble_eq_true rfl) rfl ex8 (L' := [mA 1545, mI a1, mI a2, mI v3, mI x8]) rfl ?_
      refine v_goto F dX11_addressOn_61 rfl ?_
      cases h
      exact K
    · rw [if_neg hq7] at h
      refine v_iload_n F dX11_addressOn_35 rfl rfl ?_
      refine v_if_lt F dX11_addressOn_36 rfl (fun hq9 => ?_) (fun hq9 => ?_)
      · rw [if_pos hq9] at h
        refine v_iload F dX11_addressOn_55 rfl ?_
        refine v_istore_n F dX11_addressOn_57 rfl (Nat.le_of_ble_eq_true rfl) (L' := [mA 1545, mI a1, mI a2, mI v4, mI v4]) rfl ?_
        obtain ⟨x10, ex10, h⟩ := lv_some h
        refine v_iincN F dX11_addressOn_58 (Nat.le_of_ble_eq_true rfl) rfl ex10 (L' := [mA 1545, mI a1, mI a2, mI v4, mI x10]) rfl ?_
        refine v_goto F dX11_addressOn_61 rfl ?_
        cases h
        exact K
      · rw [if_neg hq9] at h
        refine v_aload_n F dX11_addressOn_39 rfl rfl ?_
        refine gf_X11_118 F dX11_addressOn_40 hp (v := 1558) rfl ?_
        refine v_iload F dX11_addressOn_43 rfl ?_
        refine v_iald F dX11_addressOn_45 (ar_X11_17 hX hp) hi6 ?_
        refine v_aload_n F dX11_addressOn_46 rfl rfl ?_
        refine gf_X11_118 F dX11_addressOn_47 hp (v := 1558) rfl ?_
        refine v_iload_n F dX11_addressOn_50 rfl rfl ?_
        obtain ⟨hi11, h⟩ := ck_some h
        refine v_iald F dX11_addressOn_51 (ar_X11_17 hX hp) hi11 ?_
        refine v_icmp_lt F dX11_addressOn_52 rfl (fun hq12 => ?_) (fun hq12 => ?_)
        · rw [if_pos hq12] at h
          obtain ⟨x13, ex13, h⟩ := lv_some h
          refine v_iincN F dX11_addressOn_58 (Nat.le_of_ble_eq_true rfl) rfl ex13 (L' := [mA 1545, mI a1, mI a2, mI v3, mI x13]) rfl ?_
          refine v_goto F dX11_addressOn_61 rfl ?_
          cases h
          exact K
        · rw [if_neg hq12] at h
          refine v_iload F dX11_addressOn_55 rfl ?_
          refine v_istore_n F dX11_addressOn_57 rfl (Nat.le_of_ble_eq_true rfl) (L' := [mA 1545, mI a1, mI a2, mI v4, mI v4]) rfl ?_
          obtain ⟨x14, ex14, h⟩ := lv_some h
          refine v_iincN F dX11_addressOn_58 (Nat.le_of_ble_eq_true rfl) rfl ex14 (L' := [mA 1545, mI a1, mI a2, mI v4, mI x14]) rfl ?_
          refine v_goto F dX11_addressOn_61 rfl ?_
          cases h
          exact K
theorem fX11_addressOn_8_ok {w : Wd} {l : Launch} {G : Cx} {d m dd : Dt} {a1 a2 v3 v4 : Int} {r : Int} {x : Int} (F : Fx w G cX11_addressOn RX11 5 (some .int) { frames := 0, cells := 0, slots := 0, locals := 0 }) (hX : WF dd m) (hp : PB m 1545 11) (h : fX11_addressOn_8 d a1 a2 v3 v4 = some x) (K : (fun q => q = r) x) : V w l WF G (QM w G WF (some (mI r)) d m 0 0) d m 0 0 8 [mA 1545, mI a1, mI a2, mI v3, mI v4] [] := by
  unfold fX11_addressOn_8 at h
  exact loop_ok (P := fX11_addressOn_8P w l G (QM w G WF (some (mI r)) d m 0 0) m d a1 a2) (fun s x hx h1 h2 => fX11_addressOn_8f_ok F hX hp hx (by
    cases x with
    | inl s' => exact h1 s' rfl
    | inr z => cases h2 z rfl; exact K)) h
theorem vm_X11_addressOn {w : Wd} {l : Launch} {d m : Dt} {a1 a2 : Int} {r : Int} (hp : PB m 1545 11) (h : fX11_addressOn d a1 a2 = some r) : VM w l WF yX11_addressOn cX11_addressOn 5 (some .int) 0 0 0 0 d m [mA 1545, mI a1, mI a2] (some (mI r)) d m := by
  obtain ⟨x, h, K⟩ : ∃ x, fX11_addressOn d a1 a2 = some x ∧ x = r := ⟨_, h, rfl⟩
  refine VM.of (L := [mA 1545, mI a1, mI a2, mU, mU]) (by decide +kernel) rfl (Nat.le_of_ble_eq_true rfl) fun G F _ => v_fact fun _ hX _ _ => ?_
  unfold fX11_addressOn at h
  refine v_iconst F dX11_addressOn_0 ⟨by decide, by decide⟩ ?_
  refine v_istore_n F dX11_addressOn_1 rfl (Nat.le_of_ble_eq_true rfl) (L' := [mA 1545, mI a1, mI a2, mI (-1), mU]) rfl ?_
  refine v_bipush F dX11_addressOn_2 rfl ⟨by decide, by decide⟩ ?_
  refine v_iload_n F dX11_addressOn_4 rfl rfl ?_
  refine v_imul F dX11_addressOn_5 ?_
  obtain ⟨x1, ex1, h⟩ := lv_some h
  refine v_nI ex1 ?_
  refine v_istore F dX11_addressOn_6 (Nat.le_of_ble_eq_true rfl) (L' := [mA 1545, mI a1, mI a2, mI (-1), mI x1]) rfl ?_
  exact fX11_addressOn_8_ok F hX hp h K
theorem vm_X11_addressOf {w : Wd} {l : Launch} {d m : Dt} {a1 a2 : Int} {r : Int} (hp : PB m 1545 11) (h : fX11_addressOf d a1 a2 = some r) : VM w l WF yX11_addressOf cX11_addressOf 3 (some .int) 2 46 0 0 d m [mA 1545, mI a1, mI a2] (some (mI r)) d m := by
  obtain ⟨x, h, K⟩ : ∃ x, fX11_addressOf d a1 a2 = some x ∧ x = r := ⟨_, h, rfl⟩
  refine VM.of (L := [mA 1545, mI a1, mI a2]) (by decide +kernel) rfl (Nat.le_of_ble_eq_true rfl) fun G F _ => v_fact fun _ hX _ _ => ?_
  unfold fX11_addressOf at h
  refine v_aload_n F dX11_addressOf_0 rfl rfl ?_
  refine v_iload_n F dX11_addressOf_1 rfl rfl ?_
  refine v_callVv (c := 11) F dX11_addressOf_2 cv_X11_110 rfl (PB.ob hp hX (Nat.le_of_ble_eq_true rfl)) (Nat.le_of_ble_eq_true rfl) rfl (vm_X11_isPerson hp) rfl (rOk.of rfl) ?_
  refine v_if_ne F dX11_addressOf_5 rfl (fun hq1 => ?_) (fun hq1 => ?_)
  · rw [if_neg hq1] at h
    refine v_iload_n F dX11_addressOf_12 rfl rfl ?_
    refine v_callSv F dX11_addressOf_13 cs_X11_70 rfl (vm_X11_isDay) rfl (rOk.of rfl) ?_
    refine v_if_ne F dX11_addressOf_16 rfl (fun hq2 => ?_) (fun hq2 => ?_)
    · rw [if_neg hq2] at h
      refine v_aload_n F dX11_addressOf_24 rfl rfl ?_
      refine v_iload_n F dX11_addressOf_25 rfl rfl ?_
      refine v_iload_n F dX11_addressOf_26 rfl rfl ?_
      obtain ⟨x3, hc4, h⟩ := b1_some h
      refine v_callVv (c := 11) F dX11_addressOf_27 cv_X11_151 rfl (PB.ob hp hX (Nat.le_of_ble_eq_true rfl)) (Nat.le_of_ble_eq_true rfl) rfl (vm_X11_addressOn hp hc4) rfl (rOk.of rfl) ?_
      cases h
      cases (show _ = r from K)
      exact v_iret F dX11_addressOf_30
    · rw [if_pos hq2] at h
      refine v_bipush F dX11_addressOf_19 rfl ⟨by decide, by decide⟩ ?_
      refine v_goto F dX11_addressOf_21 rfl ?_
      cases h
      cases (show _ = r from K)
      exact v_iret F dX11_addressOf_30
  · rw [if_pos hq1] at h
    refine v_iconst F dX11_addressOf_8 ⟨by decide, by decide⟩ ?_
    refine v_goto F dX11_addressOf_9 rfl ?_
    cases h
    cases (show _ = r from K)
    exact v_iret F dX11_addressOf_30
def fX13_is_5P (w : Wd) (l : Launch) (G : Cx) (Q : State → Prop) (m : Dt) (d : Dt) (o a1 a2 : Int) (s : Int × Int) : Prop := V w l WF G Q d m 0 0 5 [mA o, mI a1, mI a2, mI (s.1), mI (s.2)] []
theorem fX13_is_5f_ok {w : Wd} {l : Launch} {G : Cx} {d m dd : Dt} {o a1 a2 : Int} {r : Int} {s : Int × Int} {x : ((Int × Int) ⊕ Int)} (F : Fx w G cX13_is RX13 5 (some .int) { frames := 1, cells := 0, slots := 0, locals := 22 }) (hX : WF dd m) (hp : PB m o 12) (h : fX13_is_5f d o a1 a2 s = some x) (K : (Sum.elim (fX13_is_5P w l G (QM w G WF (some (mI r)) d m 0 0) m d o a1 a2) (fun q => q = r)) x) : V w l WF G (QM w G WF (some (mI r)) d m 0 0) d m 0 0 5 [mA o, mI a1, mI a2, mI (s.1), mI (s.2)] [] := by
  obtain ⟨v3, v4⟩ := s
  unfold fX13_is_5f at h
  dsimp only at h
  refine v_iload F dX13_is_5 rfl ?_
  refine v_aload_n F dX13_is_7 rfl rfl ?_
  refine gf_X13_76 F dX13_is_8 hp ?_
  refine v_icmp_ge F dX13_is_11 rfl (fun hq1 => ?_) (fun hq1 => ?_)
  · rw [if_pos hq1] at h
    obtain ⟨z, hu, ez⟩ := up_some h
    clear h
    subst ez
    have h := hu
    clear hu
    refine v_iload_n F dX13_is_64 rfl rfl ?_
    cases h
    cases (show _ = r from K)
    exact v_iret F dX13_is_65
  · rw [if_neg hq1] at h
    refine v_aload_n F dX13_is_14 rfl rfl ?_
    refine gf_X13_25 F dX13_is_15 hp (v := (o + 3)) rfl ?_
    refine v_iload F dX13_is_18 rfl ?_
    obtain ⟨hi2, h⟩ := ck_some h
    refine v_iald F dX13_is_20 (ar_X13_9 hX hp) hi2 ?_
    refine v_iload_n F dX13_is_21 rfl rfl ?_
    refine v_icmp_ne F dX13_is_22 rfl (fun hq3 => ?_) (fun hq3 => ?_)
    · rw [if_neg hq3] at h
      refine v_iload_n F dX13_is_56 rfl rfl ?_
      refine v_istore_n F dX13_is_57 rfl (Nat.le_of_ble_eq_true rfl) (L' := [mA o, mI a1, mI a2, mI v3, mI v4]) rfl ?_
      obtain ⟨x4, ex4, h⟩ := lv_some h
      refine v_iincN F dX13_is_58 (Nat.le_of_ble_eq_true rfl) rfl ex4 (L' := [mA o, mI a1, mI a2, mI v3, mI x4]) rfl ?_
      refine v_goto F dX13_is_61 rfl ?_
      cases h
      exact K
    · rw [if_pos hq3] at h
      refine v_iload_n F dX13_is_25 rfl rfl ?_
      refine v_aload_n F dX13_is_26 rfl rfl ?_
      refine gf_X13_31 F dX13_is_27 hp (v := (o + 5)) rfl ?_
      refine v_iload F dX13_is_30 rfl ?_
      refine v_iald F dX13_is_32 (ar_X13_11 hX hp) hi2 ?_
      refine v_aload_n F dX13_is_33 rfl rfl ?_
      refine gf_X13_34 F dX13_is_34 hp (v := (o + 6)) rfl ?_
      refine v_iload F dX13_is_37 rfl ?_
      refine v_iald F dX13_is_39 (ar_X13_12 hX hp) hi2 ?_
      refine v_callSv F dX13_is_40 cs_X13_72 rfl (vm_X0_within) rfl (rOk.of rfl) ?_
      refine v_if_eq F dX13_is_43 rfl (fun hq5 => ?_) (fun hq5 => ?_)
      · rw [if_pos hq5] at h
        refine v_iload_n F dX13_is_56 rfl rfl ?_
        refine v_istore_n F dX13_is_57 rfl (Nat.le_of_ble_eq_true rfl) (L' := [mA o, mI a1, mI a2, mI v3, mI v4]) rfl ?_
        obtain ⟨x6, ex6, h⟩ := lv_some h
        refine v_iincN F dX13_is_58 (Nat.le_of_ble_eq_true rfl) rfl ex6 (L' := [mA o, mI a1, mI a2, mI v3, mI x6]) rfl ?_
        refine v_goto F dX13_is_61 rfl ?_
        cases h
        exact K
      · rw [if_neg hq5] at h
        refine v_aload_n F dX13_is_46 rfl rfl ?_
        refine gf_X13_28 F dX13_is_47 hp (v := (o + 4)) rfl ?_
        refine v_iload F dX13_is_50 rfl ?_
        refine v_iald F dX13_is_52 (ar_X13_10 hX hp) hi2 ?_
        refine v_goto F dX13_is_53 rfl ?_
        obtain ⟨x7, ex7, h⟩ := lv_some h
        refine v_nI ex7 ?_
        refine v_istore_n F dX13_is_57 rfl (Nat.le_of_ble_eq_true rfl) (L' := [mA o, mI a1, mI a2, mI x7, mI v4]) rfl ?_
        obtain ⟨x8, ex8, h⟩ := lv_some h
        refine v_iincN F dX13_is_58 (Nat.le_of_ble_eq_true rfl) rfl ex8 (L' := [mA o, mI a1, mI a2, mI x7, mI x8]) rfl ?_
        refine v_goto F dX13_is_61 rfl ?_
        cases h
        exact K
theorem fX13_is_5_ok {w : Wd} {l : Launch} {G : Cx} {d m dd : Dt} {o a1 a2 v3 v4 : Int} {r : Int} {x : Int} (F : Fx w G cX13_is RX13 5 (some .int) { frames := 1, cells := 0, slots := 0, locals := 22 }) (hX : WF dd m) (hp : PB m o 12) (h : fX13_is_5 d o a1 a2 v3 v4 = some x) (K : (fun q => q = r) x) : V w l WF G (QM w G WF (some (mI r)) d m 0 0) d m 0 0 5 [mA o, mI a1, mI a2, mI v3, mI v4] [] := by
  unfold fX13_is_5 at h
  exact loop_ok (P := fX13_is_5P w l G (QM w G WF (some (mI r)) d m 0 0) m d o a1 a2) (fun s x hx h1 h2 => fX13_is_5f_ok F hX hp hx (by
    cases x with
    | inl s' => exact h1 s' rfl
    | inr z => cases h2 z rfl; exact K)) h
theorem vm_X13_is {w : Wd} {l : Launch} {d m : Dt} {o a1 a2 : Int} {r : Int} (hp : PB m o 12) (h : fX13_is d o a1 a2 = some r) : VM w l WF yX13_is cX13_is 5 (some .int) 1 22 0 0 d m [mA o, mI a1, mI a2] (some (mI r)) d m := by
  obtain ⟨x, h, K⟩ : ∃ x, fX13_is d o a1 a2 = some x ∧ x = r := ⟨_, h, rfl⟩
  refine VM.of (L := [mA o, mI a1, mI a2, mU, mU]) (by decide +kernel) rfl (Nat.le_of_ble_eq_true rfl) fun G F _ => v_fact fun _ hX _ _ => ?_
  unfold fX13_is at h
  refine v_iconst F dX13_is_0 ⟨by decide, by decide⟩ ?_
  refine v_istore_n F dX13_is_1 rfl (Nat.le_of_ble_eq_true rfl) (L' := [mA o, mI a1, mI a2, mI 0, mU]) rfl ?_
  refine v_iconst F dX13_is_2 ⟨by decide, by decide⟩ ?_
  refine v_istore F dX13_is_3 (Nat.le_of_ble_eq_true rfl) (L' := [mA o, mI a1, mI a2, mI 0, mI 0]) rfl ?_
  exact fX13_is_5_ok F hX hp h K
