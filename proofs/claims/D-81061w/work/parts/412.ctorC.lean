set_option maxRecDepth 100000
set_option maxHeartbeats 4000000
def WSX7_init : List (Int × Int × Int × Int) := [(0, 0, 1, 1), (0, 1, 2, 1), (0, 2, 3, 1)]
def TSX7_init : List (Int × Int × Int × Int) := [(101, 8, 0, 0), (101, 64, 0, 0), (101, 8, 0, 0)]
theorem alX7_init : alN TSX7_init = 3 := rfl
theorem wf_X7_init (o : Int) (d : Dt) : wr o WSX7_init d = (st (st (st d o 0 (o + 1)) o 1 (o + 2)) o 2 (o + 3)) := by
  simp [WSX7_init, wr, shf, adr]
theorem tf_X7_init (m : Dt) : al TSX7_init m = (aln (aln (aln m ((101 : Nat) : Int) 8) ((101 : Nat) : Int) 64) ((101 : Nat) : Int) 8) := by
  simp [TSX7_init, al]
theorem vm_X7_init {w : Wd} {l : Launch} {d m : Dt} {o : Int} (hm : m 0 0 = o + 1) (obm : OB m o 7) : VM w l XT yX7_init cX7_init 1 none 1 20 3 80 d m [mA o] none (wr o WSX7_init d) (al TSX7_init m) := by
  have ho := obm.1
  refine VM.of (L := [mA o]) (by decide +kernel) rfl (Nat.le_of_ble_eq_true rfl) fun G F hnm => ?_
  refine v_aload_n F dX7_init_0 rfl rfl ?_
  refine v_objI F obm.1 dX7_init_1 q687 q315 q316 (Nat.le_of_ble_eq_true rfl) (Nat.le_of_ble_eq_true rfl) (Nat.le_of_ble_eq_true rfl) ?_
  refine v_aload_n F dX7_init_4 rfl rfl ?_
  refine v_bipush F dX7_init_5 rfl ⟨by decide, by decide⟩ ?_
  refine v_newa (t := 101) (ty := .int) F dX7_init_7 rfl rfl ⟨by decide, by decide⟩ rfl (fun _ _ => rfl) rfl q348 ⟨by decide, by decide⟩ (by decide) (fun _ _ => trivial) (Nat.le_of_ble_eq_true rfl) (ks' := 8) rfl (Nat.le_of_ble_eq_true rfl) hm ?_
  obtain ⟨m1, em1⟩ : ∃ z, z = aln m ((101 : Nat) : Int) 8 := ⟨_, rfl⟩
  refine v_nM em1 ?_
  have hm1 : m1 0 0 = (o + 2) := by rw [em1]; exact aln_nxo hm ho (by decide) rfl
  have obm1 : OB m1 o 7 := by rw [em1]; exact aln_ob obm (o_lt0 hm (by decide))
  refine cpA F fz_X7_7 (fun _ => hnm) dX7_init_9 obm1 rfl rfl ?_
  obtain ⟨d1, ed1⟩ : ∃ z, z = st d o 0 (o + 1) := ⟨_, rfl⟩
  refine v_nD ed1 ?_
  refine v_aload_n F dX7_init_12 rfl rfl ?_
  refine v_bipush F dX7_init_13 rfl ⟨by decide, by decide⟩ ?_
  refine v_newa (t := 101) (ty := .int) F dX7_init_15 rfl rfl ⟨by decide, by decide⟩ rfl (fun _ _ => rfl) rfl q348 ⟨by decide, by decide⟩ (by decide) (fun _ _ => trivial) (Nat.le_of_ble_eq_true rfl) (ks' := 72) rfl (Nat.le_of_ble_eq_true rfl) hm1 ?_
  obtain ⟨m2, em2⟩ : ∃ z, z = aln m1 ((101 : Nat) : Int) 64 := ⟨_, rfl⟩
  refine v_nM em2 ?_
  have hm2 : m2 0 0 = (o + 3) := by rw [em2]; exact aln_nxo hm1 ho (by decide) rfl
  have obm2 : OB m2 o 7 := by rw [em2]; exact aln_ob obm1 (o_lt0 hm1 (by decide))
  refine cpA F fz_X7_13 (fun _ => hnm) dX7_init_17 obm2 rfl rfl ?_
  obtain ⟨d2, ed2⟩ : ∃ z, z = st d1 o 1 (o + 2) := ⟨_, rfl⟩
  refine v_nD ed2 ?_
  refine v_aload_n F dX7_init_20 rfl rfl ?_
  refine v_bipush F dX7_init_21 rfl ⟨by decide, by decide⟩ ?_
  refine v_newa (t := 101) (ty := .int) F dX7_init_23 rfl rfl ⟨by decide, by decide⟩ rfl (fun _ _ => rfl) rfl q348 ⟨by decide, by decide⟩ (by decide) (fun _ _ => trivial) (Nat.le_of_ble_eq_true rfl) (ks' := 80) rfl (Nat.le_of_ble_eq_true rfl) hm2 ?_
  obtain ⟨m3, em3⟩ : ∃ z, z = aln m2 ((101 : Nat) : Int) 8 := ⟨_, rfl⟩
  refine v_nM em3 ?_
  have hm3 : m3 0 0 = (o + 4) := by rw [em3]; exact aln_nxo hm2 ho (by decide) rfl
  have obm3 : OB m3 o 7 := by rw [em3]; exact aln_ob obm2 (o_lt0 hm2 (by decide))
  refine cpA F fz_X7_16 (fun _ => hnm) dX7_init_25 obm3 rfl rfl ?_
  obtain ⟨d3, ed3⟩ : ∃ z, z = st d2 o 2 (o + 3) := ⟨_, rfl⟩
  refine v_nD ed3 ?_
  have ed : d3 = wr o WSX7_init d := by rw [wf_X7_init]; rw [ed3, ed2, ed1]
  have em : m3 = al TSX7_init m := by rw [tf_X7_init]; rw [em3, em2, em1]
  rw [← ed, ← em]
  exact v_vret F dX7_init_28
def WSX8_init : List (Int × Int × Int × Int) := [(0, 4, 1, 1), (2, (-1), 60, 0), (0, 6, 2, 1), (0, 7, 63, 1), (64, (-1), 60, 0), (0, 11, 64, 1), (0, 12, 125, 1), (0, 13, 126, 1), (127, (-1), 40, 0), (0, 14, 127, 1), (0, 15, 168, 1), (0, 16, 169, 1), (0, 18, 170, 1), (0, 20, 171, 1), (0, 21, 172, 1), (173, (-1), 9, 0), (0, 23, 173, 1), (0, 24, 183, 1), (0, 25, 184, 1), (0, 26, 185, 1), (0, 27, 186, 1), (0, 28, 187, 1), (0, 31, 188, 1), (189, (-1), 9, 0), (0, 33, 189, 1), (199, (-1), 9, 0), (0, 34, 199, 1), (209, (-1), 9, 0), (0, 35, 209, 1), (219, (-1), 9, 0), (0, 36, 219, 1), (0, 37, 229, 1), (0, 38, 230, 1), (0, 39, 231, 1), (0, 41, 232, 1), (0, 43, 233, 1), (0, 44, 234, 1), (0, 45, 235, 1), (0, 46, 236, 1), (0, 47, 237, 1), (0, 48, 238, 1), (0, 50, 239, 1), (0, 52, 240, 1), (0, 53, 241, 1)]
def TSX8_init : List (Int × Int × Int × Int) := [(103, 9, 0, 0), (106, 60, 102, 9), (102, 9, 0, 0), (105, 60, 101, 9), (101, 60, 0, 0), (104, 9, 0, 0), (108, 40, 104, 9), (101, 40, 0, 0), (101, 40, 0, 0), (101, 9, 0, 0), (103, 9, 0, 0), (103, 9, 0, 0), (106, 9, 102, 60), (102, 60, 0, 0), (102, 60, 0, 0), (104, 60, 0, 0), (101, 60, 0, 0), (103, 9, 0, 0), (104, 9, 0, 0), (105, 9, 101, 9), (107, 9, 103, 9), (107, 9, 103, 9), (105, 9, 101, 9), (103, 9, 0, 0), (101, 81, 0, 0), (101, 81, 0, 0), (101, 9, 0, 0), (101, 9, 0, 0), (101, 9, 0, 0), (103, 9, 0, 0), (101, 9, 0, 0), (101, 9, 0, 0), (101, 9, 0, 0), (101, 8, 0, 0), (103, 60, 0, 0), (104, 9, 0, 0)]
theorem alX8_init : alN TSX8_init = 241 := rfl
theorem wf_X8_init (o : Int) (d : Dt) : wr o WSX8_init d = (st (st (st (st (st (st (st (st (st (st (st (st (st (st (mlD (st (mlD (st (mlD (st (mlD (st (st (st (st (st (st (st (mlD (st (st (st (st (st (st (mlD (st (st (st (mlD (st (st (mlD (st d o 4 (o + 1)) (o + 2) 60) o 6 (o + 2)) o 7 (o + 63)) (o + 64) 60) o 11 (o + 64)) o 12 (o + 125)) o 13 (o + 126)) (o + 127) 40) o 14 (o + 127)) o 15 (o + 168)) o 16 (o + 169)) o 18 (o + 170)) o 20 (o + 171)) o 21 (o + 172)) (o + 173) 9) o 23 (o + 173)) o 24 (o + 183)) o 25 (o + 184)) o 26 (o + 185)) o 27 (o + 186)) o 28 (o + 187)) o 31 (o + 188)) (o + 189) 9) o 33 (o + 189)) (o + 199) 9) o 34 (o + 199)) (o + 209) 9) o 35 (o + 209)) (o + 219) 9) o 36 (o + 219)) o 37 (o + 229)) o 38 (o + 230)) o 39 (o + 231)) o 41 (o + 232)) o 43 (o + 233)) o 44 (o + 234)) o 45 (o + 235)) o 46 (o + 236)) o 47 (o + 237)) o 48 (o + 238)) o 50 (o + 239)) o 52 (o + 240)) o 53 (o + 241)) := by
  simp [WSX8_init, wr, shf, adr]
theorem tf_X8_init (m : Dt) : al TSX8_init m = (aln (aln (aln (aln (aln (aln (aln (aln (aln (aln (aln (aln (aln (mlt (mlt (mlt (mlt (aln (aln (aln (aln (aln (aln (mlt (aln (aln (aln (aln (aln (mlt (aln (aln (mlt (aln (mlt (aln m ((103 : Nat) : Int) 9) ((106 : Nat) : Int) 60 ((102 : Nat) : Int) 9) ((102 : Nat) : Int) 9) ((105 : Nat) : Int) 60 ((101 : Nat) : Int) 9) ((101 : Nat) : Int) 60) ((104 : Nat) : Int) 9) ((108 : Nat) : Int) 40 ((104 : Nat) : Int) 9) ((101 : Nat) : Int) 40) ((101 : Nat) : Int) 40) ((101 : Nat) : Int) 9) ((103 : Nat) : Int) 9) ((103 : Nat) : Int) 9) ((106 : Nat) : Int) 9 ((102 : Nat) : Int) 60) ((102 : Nat) : Int) 60) ((102 : Nat) : Int) 60) ((104 : Nat) : Int) 60) ((101 : Nat) : Int) 60) ((103 : Nat) : Int) 9) ((104 : Nat) : Int) 9) ((105 : Nat) : Int) 9 ((101 : Nat) : Int) 9) ((107 : Nat) : Int) 9 ((103 : Nat) : Int) 9) ((107 : Nat) : Int) 9 ((103 : Nat) : Int) 9) ((105 : Nat) : Int) 9 ((101 : Nat) : Int) 9) ((103 : Nat) : Int) 9) ((101 : Nat) : Int) 81) ((101 : Nat) : Int) 81) ((101 : Nat) : Int) 9) ((101 : Nat) : Int) 9) ((101 : Nat) : Int) 9) ((103 : Nat) : Int) 9) ((101 : Nat) : Int) 9) ((101 : Nat) : Int) 9) ((101 : Nat) : Int) 9) ((101 : Nat) : Int) 8) ((103 : Nat) : Int) 60) ((104 : Nat) : Int) 9) := by
  simp [TSX8_init, al]
theorem vm_X8_init {w : Wd} {l : Launch} {d m : Dt} {o : Int} (hm : m 0 0 = o + 1) (obm : OB m o 8) : VM w l XT yX8_init cX8_init 1 none 1 20 241 3272 d m [mA o] none (wr o WSX8_init d) (al TSX8_init m) := by
  have ho := obm.1
  refine VM.of (L := [mA o]) (by decide +kernel) rfl (Nat.le_of_ble_eq_true rfl) fun G F hnm => ?_
  refine v_aload_n F dX8_init_0 rfl rfl ?_
  refine v_objI F obm.1 dX8_init_1 q713 q315 q316 (Nat.le_of_ble_eq_true rfl) (Nat.le_of_ble_eq_true rfl) (Nat.le_of_ble_eq_true rfl) ?_
  refine v_aload_n F dX8_init_4 rfl rfl ?_
  refine v_bipush F dX8_init_5 rfl ⟨by decide, by decide⟩ ?_
  refine v_newa (t := 103) (ty := .boolean) F dX8_init_7 rfl rfl ⟨by decide, by decide⟩ rfl (fun _ _ => rfl) rfl q533 ⟨by decide, by decide⟩ (by decide) (fun _ _ => trivial) (Nat.le_of_ble_eq_true rfl) (ks' := 9) rfl (Nat.le_of_ble_eq_true rfl) hm ?_
  obtain ⟨m1, em1⟩ : ∃ z, z = aln m ((103 : Nat) : Int) 9 := ⟨_, rfl⟩
  refine v_nM em1 ?_
  have hm1 : m1 0 0 = (o + 2) := by rw [em1]; exact aln_nxo hm ho (by decide) rfl
  have obm1 : OB m1 o 8 := by rw [em1]; exact aln_ob obm (o_lt0 hm (by decide))
  refine cpA F fz_X8_9 (fun _ => hnm) dX8_init_9 obm1 rfl rfl ?_
  obtain ⟨d1, ed1⟩ : ∃ z, z = st d o 4 (o + 1) := ⟨_, rfl⟩
  refine v_nD ed1 ?_
  refine v_aload_n F dX8_init_12 rfl rfl ?_
  refine v_bipush F dX8_init_13 rfl ⟨by decide, by decide⟩ ?_
  refine v_bipush F dX8_init_15 rfl ⟨by decide, by decide⟩ ?_
  refine v_multi (t := 106) (t2 := 102) (ty := .byte) F dX8_init_17 rfl rfl ⟨by decide, by decide⟩ ⟨by decide, by decide⟩ rfl rfl (fun _ _ => rfl) rfl (by decide) (by decide) (by decide) q714 q703 q347 (by decide) ⟨by decide, by decide⟩ ⟨by decide, by decide⟩ (fun _ _ => trivial) (kc' := 62) rfl (Nat.le_of_ble_eq_true rfl) (ks' := 609) rfl (Nat.le_of_ble_eq_true rfl) hm1 ?_
  rw [hm1]
  obtain ⟨m2, em2⟩ : ∃ z, z = mlt m1 ((106 : Nat) : Int) 60 ((102 : Nat) : Int) 9 := ⟨_, rfl⟩
  refine v_nM em2 ?_
  have hm2 : m2 0 0 = (o + 63) := by rw [em2]; exact mlt_nxo hm1 ho (by decide) rfl
  have obm2 : OB m2 o 8 := by rw [em2]; exact mlt_ob obm1 (o_lt0 hm1 (by decide)) (by decide)
  obtain ⟨d2, ed2⟩ : ∃ z, z = mlD d1 (o + 2) 60 := ⟨_, rfl⟩
  refine v_nD ed2 ?_
  refine cpA F fz_X8_17 (fun _ => hnm) dX8_init_21 obm2 rfl rfl ?_
  obtain ⟨d3, ed3⟩ : ∃ z, z = st d2 o 6 (o + 2) := ⟨_, rfl⟩
  refine v_nD ed3 ?_
  refine v_aload_n F dX8_init_24 rfl rfl ?_
  refine v_bipush F dX8_init_25 rfl ⟨by decide, by decide⟩ ?_
  refine v_newa (t := 102) (ty := .byte) F dX8_init_27 rfl rfl ⟨by decide, by decide⟩ rfl (fun _ _ => rfl) rfl q347 ⟨by decide, by decide⟩ (by decide) (fun _ _ => trivial) (Nat.le_of_ble_eq_true rfl) (ks' := 618) rfl (Nat.le_of_ble_eq_true rfl) hm2 ?_
  obtain ⟨m3, em3⟩ : ∃ z, z = aln m2 ((102 : Nat) : Int) 9 := ⟨_, rfl⟩
  refine v_nM em3 ?_
  have hm3 : m3 0 0 = (o + 64) := by rw [em3]; exact aln_nxo hm2 ho (by decide) rfl
  have obm3 : OB m3 o 8 := by rw [em3]; exact aln_ob obm2 (o_lt0 hm2 (by decide))
  refine cpA F fz_X8_20 (fun _ => hnm) dX8_init_29 obm3 rfl rfl ?_
  obtain ⟨d4, ed4⟩ : ∃ z, z = st d3 o 7 (o + 63) := ⟨_, rfl⟩
  refine v_nD ed4 ?_
  refine v_aload_n F dX8_init_32 rfl rfl ?_
  refine v_bipush F dX8_init_33 rfl ⟨by decide, by decide⟩ ?_
  refine v_bipush F dX8_init_35 rfl ⟨by decide, by decide⟩ ?_
  refine v_multi (t := 105) (t2 := 101) (ty := .int) F dX8_init_37 rfl rfl ⟨by decide, by decide⟩ ⟨by decide, by decide⟩ rfl rfl (fun _ _ => rfl) rfl (by decide) (by decide) (by decide) q715 q716 q348 (by decide) ⟨by decide, by decide⟩ ⟨by decide, by decide⟩ (fun _ _ => trivial) (kc' := 124) rfl (Nat.le_of_ble_eq_true rfl) (ks' := 1218) rfl (Nat.le_of_ble_eq_true rfl) hm3 ?_
  rw [hm3]
  obtain ⟨m4, em4⟩ : ∃ z, z = mlt m3 ((105 : Nat) : Int) 60 ((101 : Nat) : Int) 9 := ⟨_, rfl⟩
  refine v_nM em4 ?_
  have hm4 : m4 0 0 = (o + 125) := by rw [em4]; exact mlt_nxo hm3 ho (by decide) rfl
  have obm4 : OB m4 o 8 := by rw [em4]; exact mlt_ob obm3 (o_lt0 hm3 (by decide)) (by decide)
  obtain ⟨d5, ed5⟩ : ∃ z, z = mlD d4 (o + 64) 60 := ⟨_, rfl⟩
  refine v_nD ed5 ?_
  refine cpA F fz_X8_26 (fun _ => hnm) dX8_init_41 obm4 rfl rfl ?_
  obtain ⟨d6, ed6⟩ : ∃ z, z = st d5 o 11 (o + 64) := ⟨_, rfl⟩
  refine v_nD ed6 ?_
  refine v_aload_n F dX8_init_44 rfl rfl ?_
  refine v_bipush F dX8_init_45 rfl ⟨by decide, by decide⟩ ?_
  refine v_newa (t := 101) (ty := .int) F dX8_init_47 rfl rfl ⟨by decide, by decide⟩ rfl (fun _ _ => rfl) rfl q348 ⟨by decide, by decide⟩ (by decide) (fun _ _ => trivial) (Nat.le_of_ble_eq_true rfl) (ks' := 1278) rfl (Nat.le_of_ble_eq_true rfl) hm4 ?_
  obtain ⟨m5, em5⟩ : ∃ z, z = aln m4 ((101 : Nat) : Int) 60 := ⟨_, rfl⟩
  refine v_nM em5 ?_
  have hm5 : m5 0 0 = (o + 126) := by rw [em5]; exact aln_nxo hm4 ho (by decide) rfl
  have obm5 : OB m5 o 8 := by rw [em5]; exact aln_ob obm4 (o_lt0 hm4 (by decide))
  refine cpA F fz_X8_29 (fun _ => hnm) dX8_init_49 obm5 rfl rfl ?_
  obtain ⟨d7, ed7⟩ : ∃ z, z = st d6 o 12 (o + 125) := ⟨_, rfl⟩
  refine v_nD ed7 ?_
  refine v_aload_n F dX8_init_52 rfl rfl ?_
  refine v_bipush F dX8_init_53 rfl ⟨by decide, by decide⟩ ?_
  refine v_newa (t := 104) (ty := .long) F dX8_init_55 rfl rfl ⟨by decide, by decide⟩ rfl (fun _ _ => rfl) rfl q898 ⟨by decide, by decide⟩ (by decide) (fun _ _ => trivial) (Nat.le_of_ble_eq_true rfl) (ks' := 1287) rfl (Nat.le_of_ble_eq_true rfl) hm5 ?_
  obtain ⟨m6, em6⟩ : ∃ z, z = aln m5 ((104 : Nat) : Int) 9 := ⟨_, rfl⟩
  refine v_nM em6 ?_
  have hm6 : m6 0 0 = (o + 127) := by rw [em6]; exact aln_nxo hm5 ho (by decide) rfl
  have obm6 : OB m6 o 8 := by rw [em6]; exact aln_ob obm5 (o_lt0 hm5 (by decide))
  refine cpA F fz_X8_33 (fun _ => hnm) dX8_init_57 obm6 rfl rfl ?_
  obtain ⟨d8, ed8⟩ : ∃ z, z = st d7 o 13 (o + 126) := ⟨_, rfl⟩
  refine v_nD ed8 ?_
  refine v_aload_n F dX8_init_60 rfl rfl ?_
  refine v_bipush F dX8_init_61 rfl ⟨by decide, by decide⟩ ?_
  refine v_bipush F dX8_init_63 rfl ⟨by decide, by decide⟩ ?_
  refine v_multi (t := 108) (t2 := 104) (ty := .long) F dX8_init_65 rfl rfl ⟨by decide, by decide⟩ ⟨by decide, by decide⟩ rfl rfl (fun _ _ => rfl) rfl (by decide) (by decide) (by decide) q717 q718 q898 (by decide) ⟨by decide, by decide⟩ ⟨by decide, by decide⟩ (fun _ _ => trivial) (kc' := 167) rfl (Nat.le_of_ble_eq_true rfl) (ks' := 1687) rfl (Nat.le_of_ble_eq_true rfl) hm6 ?_
  rw [hm6]
  obtain ⟨m7, em7⟩ : ∃ z, z = mlt m6 ((108 : Nat) : Int) 40 ((104 : Nat) : Int) 9 := ⟨_, rfl⟩
  refine v_nM em7 ?_
  have hm7 : m7 0 0 = (o + 168) := by rw [em7]; exact mlt_nxo hm6 ho (by decide) rfl
  have obm7 : OB m7 o 8 := by rw [em7]; exact mlt_ob obm6 (o_lt0 hm6 (by decide)) (by decide)
  obtain ⟨d9, ed9⟩ : ∃ z, z = mlD d8 (o + 127) 40 := ⟨_, rfl⟩
  refine v_nD ed9 ?_
  refine cpA F fz_X8_39 (fun _ => hnm) dX8_init_69 obm7 rfl rfl ?_
  obtain ⟨d10, ed10⟩ : ∃ z, z = st d9 o 14 (o + 127) := ⟨_, rfl⟩
  refine v_nD ed10 ?_
  refine v_aload_n F dX8_init_72 rfl rfl ?_
  refine v_bipush F dX8_init_73 rfl ⟨by decide, by decide⟩ ?_
  refine v_newa (t := 101) (ty := .int) F dX8_init_75 rfl rfl ⟨by decide, by decide⟩ rfl (fun _ _ => rfl) rfl q348 ⟨by decide, by decide⟩ (by decide) (fun _ _ => trivial) (Nat.le_of_ble_eq_true rfl) (ks' := 1727) rfl (Nat.le_of_ble_eq_true rfl) hm7 ?_
  obtain ⟨m8, em8⟩ : ∃ z, z = aln m7 ((101 : Nat) : Int) 40 := ⟨_, rfl⟩
  refine v_nM em8 ?_
  have hm8 : m8 0 0 = (o + 169) := by rw [em8]; exact aln_nxo hm7 ho (by decide) rfl
  have obm8 : OB m8 o 8 := by rw [em8]; exact aln_ob obm7 (o_lt0 hm7 (by decide))
  refine cpA F fz_X8_42 (fun _ => hnm) dX8_init_77 obm8 rfl rfl ?_
  obtain ⟨d11, ed11⟩ : ∃ z, z = st d10 o 15 (o + 168) := ⟨_, rfl⟩
  refine v_nD ed11 ?_
  refine v_aload_n F dX8_init_80 rfl rfl ?_
  refine v_bipush F dX8_init_81 rfl ⟨by decide, by decide⟩ ?_
  refine v_newa (t := 101) (ty := .int) F dX8_init_83 rfl rfl ⟨by decide, by decide⟩ rfl (fun _ _ => rfl) rfl q348 ⟨by decide, by decide⟩ (by decide) (fun _ _ => trivial) (Nat.le_of_ble_eq_true rfl) (ks' := 1767) rfl (Nat.le_of_ble_eq_true rfl) hm8 ?_
  obtain ⟨m9, em9⟩ : ∃ z, z = aln m8 ((101 : Nat) : Int) 40 := ⟨_, rfl⟩
  refine v_nM em9 ?_
  have hm9 : m9 0 0 = (o + 170) := by rw [em9]; exact aln_nxo hm8 ho (by decide) rfl
  have obm9 : OB m9 o 8 := by rw [em9]; exact aln_ob obm8 (o_lt0 hm8 (by decide))
  refine cpA F fz_X8_45 (fun _ => hnm) dX8_init_85 obm9 rfl rfl ?_
  obtain ⟨d12, ed12⟩ : ∃ z, z = st d11 o 16 (o + 169) := ⟨_, rfl⟩
  refine v_nD ed12 ?_
  refine v_aload_n F dX8_init_88 rfl rfl ?_
  refine v_bipush F dX8_init_89 rfl ⟨by decide, by decide⟩ ?_
  refine v_newa (t := 101) (ty := .int) F dX8_init_91 rfl rfl ⟨by decide, by decide⟩ rfl (fun _ _ => rfl) rfl q348 ⟨by decide, by decide⟩ (by decide) (fun _ _ => trivial) (Nat.le_of_ble_eq_true rfl) (ks' := 1776) rfl (Nat.le_of_ble_eq_true rfl) hm9 ?_
  obtain ⟨m10, em10⟩ : ∃ z, z = aln m9 ((101 : Nat) : Int) 9 := ⟨_, rfl⟩
  refine v_nM em10 ?_
  have hm10 : m10 0 0 = (o + 171) := by rw [em10]; exact aln_nxo hm9 ho (by decide) rfl
  have obm10 : OB m10 o 8 := by rw [em10]; exact aln_ob obm9 (o_lt0 hm9 (by decide))
  refine cpA F fz_X8_48 (fun _ => hnm) dX8_init_93 obm10 rfl rfl ?_
  obtain ⟨d13, ed13⟩ : ∃ z, z = st d12 o 18 (o + 170) := ⟨_, rfl⟩
  refine v_nD ed13 ?_
  refine v_aload_n F dX8_init_96 rfl rfl ?_
  refine v_bipush F dX8_init_97 rfl ⟨by decide, by decide⟩ ?_
  refine v_newa (t := 103) (ty := .boolean) F dX8_init_99 rfl rfl ⟨by decide, by decide⟩ rfl (fun _ _ => rfl) rfl q533 ⟨by decide, by decide⟩ (by decide) (fun _ _ => trivial) (Nat.le_of_ble_eq_true rfl) (ks' := 1785) rfl (Nat.le_of_ble_eq_true rfl) hm10 ?_
  obtain ⟨m11, em11⟩ : ∃ z, z = aln m10 ((103 : Nat) : Int) 9 := ⟨_, rfl⟩
  refine v_nM em11 ?_
  have hm11 : m11 0 0 = (o + 172) := by rw [em11]; exact aln_nxo hm10 ho (by decide) rfl
  have obm11 : OB m11 o 8 := by rw [em11]; exact aln_ob obm10 (o_lt0 hm10 (by decide))
  refine cpA F fz_X8_51 (fun _ => hnm) dX8_init_101 obm11 rfl rfl ?_
  obtain ⟨d14, ed14⟩ : ∃ z, z = st d13 o 20 (o + 171) := ⟨_, rfl⟩
  refine v_nD ed14 ?_
  refine v_aload_n F dX8_init_104 rfl rfl ?_
  refine v_bipush F dX8_init_105 rfl ⟨by decide, by decide⟩ ?_
  refine v_newa (t := 103) (ty := .boolean) F dX8_init_107 rfl rfl ⟨by decide, by decide⟩ rfl (fun _ _ => rfl) rfl q533 ⟨by decide, by decide⟩ (by decide) (fun _ _ => trivial) (Nat.le_of_ble_eq_true rfl) (ks' := 1794) rfl (Nat.le_of_ble_eq_true rfl) hm11 ?_
  obtain ⟨m12, em12⟩ : ∃ z, z = aln m11 ((103 : Nat) : Int) 9 := ⟨_, rfl⟩
  refine v_nM em12 ?_
  have hm12 : m12 0 0 = (o + 173) := by rw [em12]; exact aln_nxo hm11 ho (by decide) rfl
  have obm12 : OB m12 o 8 := by rw [em12]; exact aln_ob obm11 (o_lt0 hm11 (by decide))
  refine cpA F fz_X8_54 (fun _ => hnm) dX8_init_109 obm12 rfl rfl ?_
  obtain ⟨d15, ed15⟩ : ∃ z, z = st d14 o 21 (o + 172) := ⟨_, rfl⟩
  refine v_nD ed15 ?_
  refine v_aload_n F dX8_init_112 rfl rfl ?_
  refine v_bipush F dX8_init_113 rfl ⟨by decide, by decide⟩ ?_
  refine v_bipush F dX8_init_115 rfl ⟨by decide, by decide⟩ ?_
  refine v_multi (t := 106) (t2 := 102) (ty := .byte) F dX8_init_117 rfl rfl ⟨by decide, by decide⟩ ⟨by decide, by decide⟩ rfl rfl (fun _ _ => rfl) rfl (by decide) (by decide) (by decide) q714 q703 q347 (by decide) ⟨by decide, by decide⟩ ⟨by decide, by decide⟩ (fun _ _ => trivial) (kc' := 182) rfl (Nat.le_of_ble_eq_true rfl) (ks' := 2343) rfl (Nat.le_of_ble_eq_true rfl) hm12 ?_
  rw [hm12]
  obtain ⟨m13, em13⟩ : ∃ z, z = mlt m12 ((106 : Nat) : Int) 9 ((102 : Nat) : Int) 60 := ⟨_, rfl⟩
  refine v_nM em13 ?_
  have hm13 : m13 0 0 = (o + 183) := by rw [em13]; exact mlt_nxo hm12 ho (by decide) rfl
  have obm13 : OB m13 o 8 := by rw [em13]; exact mlt_ob obm12 (o_lt0 hm12 (by decide)) (by decide)
  obtain ⟨d16, ed16⟩ : ∃ z, z = mlD d15 (o + 173) 9 := ⟨_, rfl⟩
  refine v_nD ed16 ?_
  refine cpA F fz_X8_57 (fun _ => hnm) dX8_init_121 obm13 rfl rfl ?_
  obtain ⟨d17, ed17⟩ : ∃ z, z = st d16 o 23 (o + 173) := ⟨_, rfl⟩
  refine v_nD ed17 ?_
  refine v_aload_n F dX8_init_124 rfl rfl ?_
  refine v_bipush F dX8_init_125 rfl ⟨by decide, by decide⟩ ?_
  refine v_newa (t := 102) (ty := .byte) F dX8_init_127 rfl rfl ⟨by decide, by decide⟩ rfl (fun _ _ => rfl) rfl q347 ⟨by decide, by decide⟩ (by decide) (fun _ _ => trivial) (Nat.le_of_ble_eq_true rfl) (ks' := 2403) rfl (Nat.le_of_ble_eq_true rfl) hm13 ?_
  obtain ⟨m14, em14⟩ : ∃ z, z = aln m13 ((102 : Nat) : Int) 60 := ⟨_, rfl⟩
  refine v_nM em14 ?_
  have hm14 : m14 0 0 = (o + 184) := by rw [em14]; exact aln_nxo hm13 ho (by decide) rfl
  have obm14 : OB m14 o 8 := by rw [em14]; exact aln_ob obm13 (o_lt0 hm13 (by decide))
  refine cpA F fz_X8_60 (fun _ => hnm) dX8_init_129 obm14 rfl rfl ?_
  obtain ⟨d18, ed18⟩ : ∃ z, z = st d17 o 24 (o + 183) := ⟨_, rfl⟩
  refine v_nD ed18 ?_
  refine v_aload_n F dX8_init_132 rfl rfl ?_
  refine v_bipush F dX8_init_133 rfl ⟨by decide, by decide⟩ ?_
  refine v_newa (t := 102) (ty := .byte) F dX8_init_135 rfl rfl ⟨by decide, by decide⟩ rfl (fun _ _ => rfl) rfl q347 ⟨by decide, by decide⟩ (by decide) (fun _ _ => trivial) (Nat.le_of_ble_eq_true rfl) (ks' := 2463) rfl (Nat.le_of_ble_eq_true rfl) hm14 ?_
  obtain ⟨m15, em15⟩ : ∃ z, z = aln m14 ((102 : Nat) : Int) 60 := ⟨_, rfl⟩
  refine v_nM em15 ?_
  have hm15 : m15 0 0 = (o + 185) := by rw [em15]; exact aln_nxo hm14 ho (by decide) rfl
  have obm15 : OB m15 o 8 := by rw [em15]; exact aln_ob obm14 (o_lt0 hm14 (by decide))
  refine cpA F fz_X8_63 (fun _ => hnm) dX8_init_137 obm15 rfl rfl ?_
  obtain ⟨d19, ed19⟩ : ∃ z, z = st d18 o 25 (o + 184) := ⟨_, rfl⟩
  refine v_nD ed19 ?_
  refine v_aload_n F dX8_init_140 rfl rfl ?_
  refine v_bipush F dX8_init_141 rfl ⟨by decide, by decide⟩ ?_
  refine v_newa (t := 104) (ty := .long) F dX8_init_143 rfl rfl ⟨by decide, by decide⟩ rfl (fun _ _ => rfl) rfl q898 ⟨by decide, by decide⟩ (by decide) (fun _ _ => trivial) (Nat.le_of_ble_eq_true rfl) (ks' := 2523) rfl (Nat.le_of_ble_eq_true rfl) hm15 ?_
  obtain ⟨m16, em16⟩ : ∃ z, z = aln m15 ((104 : Nat) : Int) 60 := ⟨_, rfl⟩
  refine v_nM em16 ?_
  have hm16 : m16 0 0 = (o + 186) := by rw [em16]; exact aln_nxo hm15 ho (by decide) rfl
  have obm16 : OB m16 o 8 := by rw [em16]; exact aln_ob obm15 (o_lt0 hm15 (by decide))
  refine cpA F fz_X8_66 (fun _ => hnm) dX8_init_145 obm16 rfl rfl ?_
  obtain ⟨d20, ed20⟩ : ∃ z, z = st d19 o 26 (o + 185) := ⟨_, rfl⟩
  refine v_nD ed20 ?_
  refine v_aload_n F dX8_init_148 rfl rfl ?_
  refine v_bipush F dX8_init_149 rfl ⟨by decide, by decide⟩ ?_
  refine v_newa (t := 101) (ty := .int) F dX8_init_151 rfl rfl ⟨by decide, by decide⟩ rfl (fun _ _ => rfl) rfl q348 ⟨by decide, by decide⟩ (by decide) (fun _ _ => trivial) (Nat.le_of_ble_eq_true rfl) (ks' := 2583) rfl (Nat.le_of_ble_eq_true rfl) hm16 ?_
  obtain ⟨m17, em17⟩ : ∃ z, z = aln m16 ((101 : Nat) : Int) 60 := ⟨_, rfl⟩
  refine v_nM em17 ?_
  have hm17 : m17 0 0 = (o + 187) := by rw [em17]; exact aln_nxo hm16 ho (by decide) rfl
  have obm17 : OB m17 o 8 := by rw [em17]; exact aln_ob obm16 (o_lt0 hm16 (by decide))
  refine cpA F fz_X8_69 (fun _ => hnm) dX8_init_153 obm17 rfl rfl ?_
  obtain ⟨d21, ed21⟩ : ∃ z, z = st d20 o 27 (o + 186) := ⟨_, rfl⟩
  refine v_nD ed21 ?_
  refine v_aload_n F dX8_init_156 rfl rfl ?_
  refine v_bipush F dX8_init_157 rfl ⟨by decide, by decide⟩ ?_
  refine v_newa (t := 103) (ty := .boolean) F dX8_init_159 rfl rfl ⟨by decide, by decide⟩ rfl (fun _ _ => rfl) rfl q533 ⟨by decide, by decide⟩ (by decide) (fun _ _ => trivial) (Nat.le_of_ble_eq_true rfl) (ks' := 2592) rfl (Nat.le_of_ble_eq_true rfl) hm17 ?_
  obtain ⟨m18, em18⟩ : ∃ z, z = aln m17 ((103 : Nat) : Int) 9 := ⟨_, rfl⟩
  refine v_nM em18 ?_
  have hm18 : m18 0 0 = (o + 188) := by rw [em18]; exact aln_nxo hm17 ho (by decide) rfl
  have obm18 : OB m18 o 8 := by rw [em18]; exact aln_ob obm17 (o_lt0 hm17 (by decide))
  refine cpA F fz_X8_72 (fun _ => hnm) dX8_init_161 obm18 rfl rfl ?_
  obtain ⟨d22, ed22⟩ : ∃ z, z = st d21 o 28 (o + 187) := ⟨_, rfl⟩
  refine v_nD ed22 ?_
  refine v_aload_n F dX8_init_164 rfl rfl ?_
  refine v_bipush F dX8_init_165 rfl ⟨by decide, by decide⟩ ?_
  refine v_newa (t := 104) (ty := .long) F dX8_init_167 rfl rfl ⟨by decide, by decide⟩ rfl (fun _ _ => rfl) rfl q898 ⟨by decide, by decide⟩ (by decide) (fun _ _ => trivial) (Nat.le_of_ble_eq_true rfl) (ks' := 2601) rfl (Nat.le_of_ble_eq_true rfl) hm18 ?_
  obtain ⟨m19, em19⟩ : ∃ z, z = aln m18 ((104 : Nat) : Int) 9 := ⟨_, rfl⟩
  refine v_nM em19 ?_
  have hm19 : m19 0 0 = (o + 189) := by rw [em19]; exact aln_nxo hm18 ho (by decide) rfl
  have obm19 : OB m19 o 8 := by rw [em19]; exact aln_ob obm18 (o_lt0 hm18 (by decide))
  refine cpA F fz_X8_75 (fun _ => hnm) dX8_init_169 obm19 rfl rfl ?_
  obtain ⟨d23, ed23⟩ : ∃ z, z = st d22 o 31 (o + 188) := ⟨_, rfl⟩
  refine v_nD ed23 ?_
  refine v_aload_n F dX8_init_172 rfl rfl ?_
  refine v_bipush F dX8_init_173 rfl ⟨by decide, by decide⟩ ?_
  refine v_bipush F dX8_init_175 rfl ⟨by decide, by decide⟩ ?_
  refine v_multi (t := 105) (t2 := 101) (ty := .int) F dX8_init_177 rfl rfl ⟨by decide, by decide⟩ ⟨by decide, by decide⟩ rfl rfl (fun _ _ => rfl) rfl (by decide) (by decide) (by decide) q715 q716 q348 (by decide) ⟨by decide, by decide⟩ ⟨by decide, by decide⟩ (fun _ _ => trivial) (kc' := 198) rfl (Nat.le_of_ble_eq_true rfl) (ks' := 2691) rfl (Nat.le_of_ble_eq_true rfl) hm19 ?_
  rw [hm19]
  obtain ⟨m20, em20⟩ : ∃ z, z = mlt m19 ((105 : Nat) : Int) 9 ((101 : Nat) : Int) 9 := ⟨_, rfl⟩
  refine v_nM em20 ?_
  have hm20 : m20 0 0 = (o + 199) := by rw [em20]; exact mlt_nxo hm19 ho (by decide) rfl
  have obm20 : OB m20 o 8 := by rw [em20]; exact mlt_ob obm19 (o_lt0 hm19 (by decide)) (by decide)
  obtain ⟨d24, ed24⟩ : ∃ z, z = mlD d23 (o + 189) 9 := ⟨_, rfl⟩
  refine v_nD ed24 ?_
  refine cpA F fz_X8_78 (fun _ => hnm) dX8_init_181 obm20 rfl rfl ?_
  obtain ⟨d25, ed25⟩ : ∃ z, z = st d24 o 33 (o + 189) := ⟨_, rfl⟩
  refine v_nD ed25 ?_
  refine v_aload_n F dX8_init_184 rfl rfl ?_
  refine v_bipush F dX8_init_185 rfl ⟨by decide, by decide⟩ ?_
  refine v_bipush F dX8_init_187 rfl ⟨by decide, by decide⟩ ?_
  refine v_multi (t := 107) (t2 := 103) (ty := .boolean) F dX8_init_189 rfl rfl ⟨by decide, by decide⟩ ⟨by decide, by decide⟩ rfl rfl (fun _ _ => rfl) rfl (by decide) (by decide) (by decide) q719 q720 q533 (by decide) ⟨by decide, by decide⟩ ⟨by decide, by decide⟩ (fun _ _ => trivial) (kc' := 208) rfl (Nat.le_of_ble_eq_true rfl) (ks' := 2781) rfl (Nat.le_of_ble_eq_true rfl) hm20 ?_
  rw [hm20]
  obtain ⟨m21, em21⟩ : ∃ z, z = mlt m20 ((107 : Nat) : Int) 9 ((103 : Nat) : Int) 9 := ⟨_, rfl⟩
  refine v_nM em21 ?_
  have hm21 : m21 0 0 = (o + 209) := by rw [em21]; exact mlt_nxo hm20 ho (by decide) rfl
  have obm21 : OB m21 o 8 := by rw [em21]; exact mlt_ob obm20 (o_lt0 hm20 (by decide)) (by decide)
  obtain ⟨d26, ed26⟩ : ∃ z, z = mlD d25 (o + 199) 9 := ⟨_, rfl⟩
  refine v_nD ed26 ?_
  refine cpA F fz_X8_83 (fun _ => hnm) dX8_init_193 obm21 rfl rfl ?_
  obtain ⟨d27, ed27⟩ : ∃ z, z = st d26 o 34 (o + 199) := ⟨_, rfl⟩
  refine v_nD ed27 ?_
  refine v_aload_n F dX8_init_196 rfl rfl ?_
  refine v_bipush F dX8_init_197 rfl ⟨by decide, by decide⟩ ?_
  refine v_bipush F dX8_init_199 rfl ⟨by decide, by decide⟩ ?_
  refine v_multi (t := 107) (t2 := 103) (ty := .boolean) F dX8_init_201 rfl rfl ⟨by decide, by decide⟩ ⟨by decide, by decide⟩ rfl rfl (fun _ _ => rfl) rfl (by decide) (by decide) (by decide) q719 q720 q533 (by decide) ⟨by decide, by decide⟩ ⟨by decide, by decide⟩ (fun _ _ => trivial) (kc' := 218) rfl (Nat.le_of_ble_eq_true rfl) (ks' := 2871) rfl (Nat.le_of_ble_eq_true rfl) hm21 ?_
  rw [hm21]
  obtain ⟨m22, em22⟩ : ∃ z, z = mlt m21 ((107 : Nat) : Int) 9 ((103 : Nat) : Int) 9 := ⟨_, rfl⟩
  refine v_nM em22 ?_
  have hm22 : m22 0 0 = (o + 219) := by rw [em22]; exact mlt_nxo hm21 ho (by decide) rfl
  have obm22 : OB m22 o 8 := by rw [em22]; exact mlt_ob obm21 (o_lt0 hm21 (by decide)) (by decide)
  obtain ⟨d28, ed28⟩ : ∃ z, z = mlD d27 (o + 209) 9 := ⟨_, rfl⟩
  refine v_nD ed28 ?_
  refine cpA F fz_X8_86 (fun _ => hnm) dX8_init_205 obm22 rfl rfl ?_
  obtain ⟨d29, ed29⟩ : ∃ z, z = st d28 o 35 (o + 209) := ⟨_, rfl⟩
  refine v_nD ed29 ?_
  refine v_aload_n F dX8_init_208 rfl rfl ?_
  refine v_bipush F dX8_init_209 rfl ⟨by decide, by decide⟩ ?_
  refine v_bipush F dX8_init_211 rfl ⟨by decide, by decide⟩ ?_
  refine v_multi (t := 105) (t2 := 101) (ty := .int) F dX8_init_213 rfl rfl ⟨by decide, by decide⟩ ⟨by decide, by decide⟩ rfl rfl (fun _ _ => rfl) rfl (by decide) (by decide) (by decide) q715 q716 q348 (by decide) ⟨by decide, by decide⟩ ⟨by decide, by decide⟩ (fun _ _ => trivial) (kc' := 228) rfl (Nat.le_of_ble_eq_true rfl) (ks' := 2961) rfl (Nat.le_of_ble_eq_true rfl) hm22 ?_
  rw [hm22]
  obtain ⟨m23, em23⟩ : ∃ z, z = mlt m22 ((105 : Nat) : Int) 9 ((101 : Nat) : Int) 9 := ⟨_, rfl⟩
  refine v_nM em23 ?_
  have hm23 : m23 0 0 = (o + 229) := by rw [em23]; exact mlt_nxo hm22 ho (by decide) rfl
  have obm23 : OB m23 o 8 := by rw [em23]; exact mlt_ob obm22 (o_lt0 hm22 (by decide)) (by decide)
  obtain ⟨d30, ed30⟩ : ∃ z, z = mlD d29 (o + 219) 9 := ⟨_, rfl⟩
  refine v_nD ed30 ?_
  refine cpA F fz_X8_89 (fun _ => hnm) dX8_init_217 obm23 rfl rfl ?_
  obtain ⟨d31, ed31⟩ : ∃ z, z = st d30 o 36 (o + 219) := ⟨_, rfl⟩
  refine v_nD ed31 ?_
  refine v_aload_n F dX8_init_220 rfl rfl ?_
  refine v_bipush F dX8_init_221 rfl ⟨by decide, by decide⟩ ?_
  refine v_newa (t := 103) (ty := .boolean) F dX8_init_223 rfl rfl ⟨by decide, by decide⟩ rfl (fun _ _ => rfl) rfl q533 ⟨by decide, by decide⟩ (by decide) (fun _ _ => trivial) (Nat.le_of_ble_eq_true rfl) (ks' := 2970) rfl (Nat.le_of_ble_eq_true rfl) hm23 ?_
  obtain ⟨m24, em24⟩ : ∃ z, z = aln m23 ((103 : Nat) : Int) 9 := ⟨_, rfl⟩
  refine v_nM em24 ?_
  have hm24 : m24 0 0 = (o + 230) := by rw [em24]; exact aln_nxo hm23 ho (by decide) rfl
  have obm24 : OB m24 o 8 := by rw [em24]; exact aln_ob obm23 (o_lt0 hm23 (by decide))
  refine cpA F fz_X8_92 (fun _ => hnm) dX8_init_225 obm24 rfl rfl ?_
  obtain ⟨d32, ed32⟩ : ∃ z, z = st d31 o 37 (o + 229) := ⟨_, rfl⟩
  refine v_nD ed32 ?_
  refine v_aload_n F dX8_init_228 rfl rfl ?_
  refine v_bipush F dX8_init_229 rfl ⟨by decide, by decide⟩ ?_
  refine v_newa (t := 101) (ty := .int) F dX8_init_231 rfl rfl ⟨by decide, by decide⟩ rfl (fun _ _ => rfl) rfl q348 ⟨by decide, by decide⟩ (by decide) (fun _ _ => trivial) (Nat.le_of_ble_eq_true rfl) (ks' := 3051) rfl (Nat.le_of_ble_eq_true rfl) hm24 ?_
  obtain ⟨m25, em25⟩ : ∃ z, z = aln m24 ((101 : Nat) : Int) 81 := ⟨_, rfl⟩
  refine v_nM em25 ?_
  have hm25 : m25 0 0 = (o + 231) := by rw [em25]; exact aln_nxo hm24 ho (by decide) rfl
  have obm25 : OB m25 o 8 := by rw [em25]; exact aln_ob obm24 (o_lt0 hm24 (by decide))
  refine cpA F fz_X8_95 (fun _ => hnm) dX8_init_233 obm25 rfl rfl ?_
  obtain ⟨d33, ed33⟩ : ∃ z, z = st d32 o 38 (o + 230) := ⟨_, rfl⟩
  refine v_nD ed33 ?_
  refine v_aload_n F dX8_init_236 rfl rfl ?_
  refine v_bipush F dX8_init_237 rfl ⟨by decide, by decide⟩ ?_
  refine v_newa (t := 101) (ty := .int) F dX8_init_239 rfl rfl ⟨by decide, by decide⟩ rfl (fun _ _ => rfl) rfl q348 ⟨by decide, by decide⟩ (by decide) (fun _ _ => trivial) (Nat.le_of_ble_eq_true rfl) (ks' := 3132) rfl (Nat.le_of_ble_eq_true rfl) hm25 ?_
  obtain ⟨m26, em26⟩ : ∃ z, z = aln m25 ((101 : Nat) : Int) 81 := ⟨_, rfl⟩
  refine v_nM em26 ?_
  have hm26 : m26 0 0 = (o + 232) := by rw [em26]; exact aln_nxo hm25 ho (by decide) rfl
  have obm26 : OB m26 o 8 := by rw [em26]; exact aln_ob obm25 (o_lt0 hm25 (by decide))
  refine cpA F fz_X8_98 (fun _ => hnm) dX8_init_241 obm26 rfl rfl ?_
  obtain ⟨d34, ed34⟩ : ∃ z, z = st d33 o 39 (o + 231) := ⟨_, rfl⟩
  refine v_nD ed34 ?_
  refine v_aload_n F dX8_init_244 rfl rfl ?_
  refine v_bipush F dX8_init_245 rfl ⟨by decide, by decide⟩ ?_
  refine v_newa (t := 101) (ty := .int) F dX8_init_247 rfl rfl ⟨by decide, by decide⟩ rfl (fun _ _ => rfl) rfl q348 ⟨by decide, by decide⟩ (by decide) (fun _ _ => trivial) (Nat.le_of_ble_eq_true rfl) (ks' := 3141) rfl (Nat.le_of_ble_eq_true rfl) hm26 ?_
  obtain ⟨m27, em27⟩ : ∃ z, z = aln m26 ((101 : Nat) : Int) 9 := ⟨_, rfl⟩
  refine v_nM em27 ?_
  have hm27 : m27 0 0 = (o + 233) := by rw [em27]; exact aln_nxo hm26 ho (by decide) rfl
  have obm27 : OB m27 o 8 := by rw [em27]; exact aln_ob obm26 (o_lt0 hm26 (by decide))
  refine cpA F fz_X8_101 (fun _ => hnm) dX8_init_249 obm27 rfl rfl ?_
  obtain ⟨d35, ed35⟩ : ∃ z, z = st d34 o 41 (o + 232) := ⟨_, rfl⟩
  refine v_nD ed35 ?_
  refine v_aload_n F dX8_init_252 rfl rfl ?_
  refine v_bipush F dX8_init_253 rfl ⟨by decide, by decide⟩ ?_
  refine v_newa (t := 101) (ty := .int) F dX8_init_255 rfl rfl ⟨by decide, by decide⟩ rfl (fun _ _ => rfl) rfl q348 ⟨by decide, by decide⟩ (by decide) (fun _ _ => trivial) (Nat.le_of_ble_eq_true rfl) (ks' := 3150) rfl (Nat.le_of_ble_eq_true rfl) hm27 ?_
  obtain ⟨m28, em28⟩ : ∃ z, z = aln m27 ((101 : Nat) : Int) 9 := ⟨_, rfl⟩
  refine v_nM em28 ?_
  have hm28 : m28 0 0 = (o + 234) := by rw [em28]; exact aln_nxo hm27 ho (by decide) rfl
  have obm28 : OB m28 o 8 := by rw [em28]; exact aln_ob obm27 (o_lt0 hm27 (by decide))
  refine cpA F fz_X8_104 (fun _ => hnm) dX8_init_257 obm28 rfl rfl ?_
  obtain ⟨d36, ed36⟩ : ∃ z, z = st d35 o 43 (o + 233) := ⟨_, rfl⟩
  refine v_nD ed36 ?_
  refine v_aload_n F dX8_init_260 rfl rfl ?_
  refine v_bipush F dX8_init_261 rfl ⟨by decide, by decide⟩ ?_
  refine v_newa (t := 101) (ty := .int) F dX8_init_263 rfl rfl ⟨by decide, by decide⟩ rfl (fun _ _ => rfl) rfl q348 ⟨by decide, by decide⟩ (by decide) (fun _ _ => trivial) (Nat.le_of_ble_eq_true rfl) (ks' := 3159) rfl (Nat.le_of_ble_eq_true rfl) hm28 ?_
  obtain ⟨m29, em29⟩ : ∃ z, z = aln m28 ((101 : Nat) : Int) 9 := ⟨_, rfl⟩
  refine v_nM em29 ?_
  have hm29 : m29 0 0 = (o + 235) := by rw [em29]; exact aln_nxo hm28 ho (by decide) rfl
  have obm29 : OB m29 o 8 := by rw [em29]; exact aln_ob obm28 (o_lt0 hm28 (by decide))
  refine cpA F fz_X8_107 (fun _ => hnm) dX8_init_265 obm29 rfl rfl ?_
  obtain ⟨d37, ed37⟩ : ∃ z, z = st d36 o 44 (o + 234) := ⟨_, rfl⟩
  refine v_nD ed37 ?_
  refine v_aload_n F dX8_init_268 rfl rfl ?_
  refine v_bipush F dX8_init_269 rfl ⟨by decide, by decide⟩ ?_
  refine v_newa (t := 103) (ty := .boolean) F dX8_init_271 rfl rfl ⟨by decide, by decide⟩ rfl (fun _ _ => rfl) rfl q533 ⟨by decide, by decide⟩ (by decide) (fun _ _ => trivial) (Nat.le_of_ble_eq_true rfl) (ks' := 3168) rfl (Nat.le_of_ble_eq_true rfl) hm29 ?_
  obtain ⟨m30, em30⟩ : ∃ z, z = aln m29 ((103 : Nat) : Int) 9 := ⟨_, rfl⟩
  refine v_nM em30 ?_
  have hm30 : m30 0 0 = (o + 236) := by rw [em30]; exact aln_nxo hm29 ho (by decide) rfl
  have obm30 : OB m30 o 8 := by rw [em30]; exact aln_ob obm29 (o_lt0 hm29 (by decide))
  refine cpA F fz_X8_110 (fun _ => hnm) dX8_init_273 obm30 rfl rfl ?_
  obtain ⟨d38, ed38⟩ : ∃ z, z = st d37 o 45 (o + 235) := ⟨_, rfl⟩
  refine v_nD ed38 ?_
  refine v_aload_n F dX8_init_276 rfl rfl ?_
  refine v_bipush F dX8_init_277 rfl ⟨by decide, by decide⟩ ?_
  refine v_newa (t := 101) (ty := .int) F dX8_init_279 rfl rfl ⟨by decide, by decide⟩ rfl (fun _ _ => rfl) rfl q348 ⟨by decide, by decide⟩ (by decide) (fun _ _ => trivial) (Nat.le_of_ble_eq_true rfl) (ks' := 3177) rfl (Nat.le_of_ble_eq_true rfl) hm30 ?_
  obtain ⟨m31, em31⟩ : ∃ z, z = aln m30 ((101 : Nat) : Int) 9 := ⟨_, rfl⟩
  refine v_nM em31 ?_
  have hm31 : m31 0 0 = (o + 237) := by rw [em31]; exact aln_nxo hm30 ho (by decide) rfl
  have obm31 : OB m31 o 8 := by rw [em31]; exact aln_ob obm30 (o_lt0 hm30 (by decide))
  refine cpA F fz_X8_113 (fun _ => hnm) dX8_init_281 obm31 rfl rfl ?_
  obtain ⟨d39, ed39⟩ : ∃ z, z = st d38 o 46 (o + 236) := ⟨_, rfl⟩
  refine v_nD ed39 ?_
  refine v_aload_n F dX8_init_284 rfl rfl ?_
  refine v_bipush F dX8_init_285 rfl ⟨by decide, by decide⟩ ?_
  refine v_newa (t := 101) (ty := .int) F dX8_init_287 rfl rfl ⟨by decide, by decide⟩ rfl (fun _ _ => rfl) rfl q348 ⟨by decide, by decide⟩ (by decide) (fun _ _ => trivial) (Nat.le_of_ble_eq_true rfl) (ks' := 3186) rfl (Nat.le_of_ble_eq_true rfl) hm31 ?_
  obtain ⟨m32, em32⟩ : ∃ z, z = aln m31 ((101 : Nat) : Int) 9 := ⟨_, rfl⟩
  refine v_nM em32 ?_
  have hm32 : m32 0 0 = (o + 238) := by rw [em32]; exact aln_nxo hm31 ho (by decide) rfl
  have obm32 : OB m32 o 8 := by rw [em32]; exact aln_ob obm31 (o_lt0 hm31 (by decide))
  refine cpA F fz_X8_116 (fun _ => hnm) dX8_init_289 obm32 rfl rfl ?_
  obtain ⟨d40, ed40⟩ : ∃ z, z = st d39 o 47 (o + 237) := ⟨_, rfl⟩
  refine v_nD ed40 ?_
  refine v_aload_n F dX8_init_292 rfl rfl ?_
  refine v_bipush F dX8_init_293 rfl ⟨by decide, by decide⟩ ?_
  refine v_newa (t := 101) (ty := .int) F dX8_init_295 rfl rfl ⟨by decide, by decide⟩ rfl (fun _ _ => rfl) rfl q348 ⟨by decide, by decide⟩ (by decide) (fun _ _ => trivial) (Nat.le_of_ble_eq_true rfl) (ks' := 3195) rfl (Nat.le_of_ble_eq_true rfl) hm32 ?_
  obtain ⟨m33, em33⟩ : ∃ z, z = aln m32 ((101 : Nat) : Int) 9 := ⟨_, rfl⟩
  refine v_nM em33 ?_
  have hm33 : m33 0 0 = (o + 239) := by rw [em33]; exact aln_nxo hm32 ho (by decide) rfl
  have obm33 : OB m33 o 8 := by rw [em33]; exact aln_ob obm32 (o_lt0 hm32 (by decide))
  refine cpA F fz_X8_119 (fun _ => hnm) dX8_init_297 obm33 rfl rfl ?_
  obtain ⟨d41, ed41⟩ : ∃ z, z = st d40 o 48 (o + 238) := ⟨_, rfl⟩
  refine v_nD ed41 ?_
  refine v_aload_n F dX8_init_300 rfl rfl ?_
  refine v_bipush F dX8_init_301 rfl ⟨by decide, by decide⟩ ?_
  refine v_newa (t := 101) (ty := .int) F dX8_init_303 rfl rfl ⟨by decide, by decide⟩ rfl (fun _ _ => rfl) rfl q348 ⟨by decide, by decide⟩ (by decide) (fun _ _ => trivial) (Nat.le_of_ble_eq_true rfl) (ks' := 3203) rfl (Nat.le_of_ble_eq_true rfl) hm33 ?_
  obtain ⟨m34, em34⟩ : ∃ z, z = aln m33 ((101 : Nat) : Int) 8 := ⟨_, rfl⟩
  refine v_nM em34 ?_
  have hm34 : m34 0 0 = (o + 240) := by rw [em34]; exact aln_nxo hm33 ho (by decide) rfl
  have obm34 : OB m34 o 8 := by rw [em34]; exact aln_ob obm33 (o_lt0 hm33 (by decide))
  refine cpA F fz_X8_122 (fun _ => hnm) dX8_init_305 obm34 rfl rfl ?_
  obtain ⟨d42, ed42⟩ : ∃ z, z = st d41 o 50 (o + 239) := ⟨_, rfl⟩
  refine v_nD ed42 ?_
  refine v_aload_n F dX8_init_308 rfl rfl ?_
  refine v_bipush F dX8_init_309 rfl ⟨by decide, by decide⟩ ?_
  refine v_newa (t := 103) (ty := .boolean) F dX8_init_311 rfl rfl ⟨by decide, by decide⟩ rfl (fun _ _ => rfl) rfl q533 ⟨by decide, by decide⟩ (by decide) (fun _ _ => trivial) (Nat.le_of_ble_eq_true rfl) (ks' := 3263) rfl (Nat.le_of_ble_eq_true rfl) hm34 ?_
  obtain ⟨m35, em35⟩ : ∃ z, z = aln m34 ((103 : Nat) : Int) 60 := ⟨_, rfl⟩
  refine v_nM em35 ?_
  have hm35 : m35 0 0 = (o + 241) := by rw [em35]; exact aln_nxo hm34 ho (by decide) rfl
  have obm35 : OB m35 o 8 := by rw [em35]; exact aln_ob obm34 (o_lt0 hm34 (by decide))
  refine cpA F fz_X8_125 (fun _ => hnm) dX8_init_313 obm35 rfl rfl ?_
  obtain ⟨d43, ed43⟩ : ∃ z, z = st d42 o 52 (o + 240) := ⟨_, rfl⟩
  refine v_nD ed43 ?_
  refine v_aload_n F dX8_init_316 rfl rfl ?_
  refine v_bipush F dX8_init_317 rfl ⟨by decide, by decide⟩ ?_
  refine v_newa (t := 104) (ty := .long) F dX8_init_319 rfl rfl ⟨by decide, by decide⟩ rfl (fun _ _ => rfl) rfl q898 ⟨by decide, by decide⟩ (by decide) (fun _ _ => trivial) (Nat.le_of_ble_eq_true rfl) (ks' := 3272) rfl (Nat.le_of_ble_eq_true rfl) hm35 ?_
  obtain ⟨m36, em36⟩ : ∃ z, z = aln m35 ((104 : Nat) : Int) 9 := ⟨_, rfl⟩
  refine v_nM em36 ?_
  have hm36 : m36 0 0 = (o + 242) := by rw [em36]; exact aln_nxo hm35 ho (by decide) rfl
  have obm36 : OB m36 o 8 := by rw [em36]; exact aln_ob obm35 (o_lt0 hm35 (by decide))
  refine cpA F fz_X8_128 (fun _ => hnm) dX8_init_321 obm36 rfl rfl ?_
  obtain ⟨d44, ed44⟩ : ∃ z, z = st d43 o 53 (o + 241) := ⟨_, rfl⟩
  refine v_nD ed44 ?_
  have ed : d44 = wr o WSX8_init d := by rw [wf_X8_init]; rw [ed44, ed43, ed42, ed41, ed40, ed39, ed38, ed37, ed36, ed35, ed34, ed33, ed32, ed31, ed30, ed29, ed28, ed27, ed26, ed25, ed24, ed23, ed22, ed21, ed20, ed19, ed18, ed17, ed16, ed15, ed14, ed13, ed12, ed11, ed10, ed9, ed8, ed7, ed6, ed5, ed4, ed3, ed2, ed1]
  have em : m36 = al TSX8_init m := by rw [tf_X8_init]; rw [em36, em35, em34, em33, em32, em31, em30, em29, em28, em27, em26, em25, em24, em23, em22, em21, em20, em19, em18, em17, em16, em15, em14, em13, em12, em11, em10, em9, em8, em7, em6, em5, em4, em3, em2, em1]
  rw [← ed, ← em]
  exact v_vret F dX8_init_324
