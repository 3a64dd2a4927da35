set_option maxRecDepth 100000
set_option maxHeartbeats 4000000
def WSX9_init : List (Int × Int × Int × Int) := [(0, 1, 1, 1), (0, 2, 2, 1), (0, 3, 3, 1), (0, 4, 4, 1), (0, 5, 5, 1), (0, 7, 6, 1), (0, 8, 7, 1)]
def TSX9_init : List (Int × Int × Int × Int) := [(101, 9, 0, 0), (101, 9, 0, 0), (101, 9, 0, 0), (101, 9, 0, 0), (103, 9, 0, 0), (101, 9, 0, 0), (101, 9, 0, 0)]
theorem alX9_init : alN TSX9_init = 7 := rfl
theorem wf_X9_init (o : Int) (d : Dt) : wr o WSX9_init d = (st (st (st (st (st (st (st d o 1 (o + 1)) o 2 (o + 2)) o 3 (o + 3)) o 4 (o + 4)) o 5 (o + 5)) o 7 (o + 6)) o 8 (o + 7)) := by
  simp [WSX9_init, wr, shf, adr]
theorem tf_X9_init (m : Dt) : al TSX9_init m = (aln (aln (aln (aln (aln (aln (aln m ((101 : Nat) : Int) 9) ((101 : Nat) : Int) 9) ((101 : Nat) : Int) 9) ((101 : Nat) : Int) 9) ((103 : Nat) : Int) 9) ((101 : Nat) : Int) 9) ((101 : Nat) : Int) 9) := by
  simp [TSX9_init, al]
theorem vm_X9_init {w : Wd} {l : Launch} {d m : Dt} {o : Int} (hm : m 0 0 = o + 1) (obm : OB m o 9) : VM w l XT yX9_init cX9_init 1 none 1 20 7 63 d m [mA o] none (wr o WSX9_init d) (al TSX9_init m) := by
  have ho := obm.1
  refine VM.of (L := [mA o]) (by decide +kernel) rfl (Nat.le_of_ble_eq_true rfl) fun G F hnm => ?_
  refine v_aload_n F dX9_init_0 rfl rfl ?_
  refine v_objI F obm.1 dX9_init_1 q904 q315 q316 (Nat.le_of_ble_eq_true rfl) (Nat.le_of_ble_eq_true rfl) (Nat.le_of_ble_eq_true rfl) ?_
  refine v_aload_n F dX9_init_4 rfl rfl ?_
  refine v_bipush F dX9_init_5 rfl ⟨by decide, by decide⟩ ?_
  refine v_newa (t := 101) (ty := .int) F dX9_init_7 rfl rfl ⟨by decide, by decide⟩ rfl (fun _ _ => rfl) rfl q348 ⟨by decide, by decide⟩ (by decide) (fun _ _ => trivial) (Nat.le_of_ble_eq_true rfl) (ks' := 9) rfl (Nat.le_of_ble_eq_true rfl) hm ?_
  obtain ⟨m1, em1⟩ : ∃ z, z = aln m ((101 : Nat) : Int) 9 := ⟨_, rfl⟩
  refine v_nM em1 ?_
  have hm1 : m1 0 0 = (o + 2) := by rw [em1]; exact aln_nxo hm ho (by decide) rfl
  have obm1 : OB m1 o 9 := by rw [em1]; exact aln_ob obm (o_lt0 hm (by decide))
  refine cpA F fz_X9_9 (fun _ => hnm) dX9_init_9 obm1 rfl rfl ?_
  obtain ⟨d1, ed1⟩ : ∃ z, z = st d o 1 (o + 1) := ⟨_, rfl⟩
  refine v_nD ed1 ?_
  refine v_aload_n F dX9_init_12 rfl rfl ?_
  refine v_bipush F dX9_init_13 rfl ⟨by decide, by decide⟩ ?_
  refine v_newa (t := 101) (ty := .int) F dX9_init_15 rfl rfl ⟨by decide, by decide⟩ rfl (fun _ _ => rfl) rfl q348 ⟨by decide, by decide⟩ (by decide) (fun _ _ => trivial) (Nat.le_of_ble_eq_true rfl) (ks' := 18) rfl (Nat.le_of_ble_eq_true rfl) hm1 ?_
  obtain ⟨m2, em2⟩ : ∃ z, z = aln m1 ((101 : Nat) : Int) 9 := ⟨_, rfl⟩
  refine v_nM em2 ?_
  have hm2 : m2 0 0 = (o + 3) := by rw [em2]; exact aln_nxo hm1 ho (by decide) rfl
  have obm2 : OB m2 o 9 := by rw [em2]; exact aln_ob obm1 (o_lt0 hm1 (by decide))
  refine cpA F fz_X9_15 (fun _ => hnm) dX9_init_17 obm2 rfl rfl ?_
  obtain ⟨d2, ed2⟩ : ∃ z, z = st d1 o 2 (o + 2) := ⟨_, rfl⟩
  refine v_nD ed2 ?_
  refine v_aload_n F dX9_init_20 rfl rfl ?_
  refine v_bipush F dX9_init_21 rfl ⟨by decide, by decide⟩ ?_
  refine v_newa (t := 101) (ty := .int) F dX9_init_23 rfl rfl ⟨by decide, by decide⟩ rfl (fun _ _ => rfl) rfl q348 ⟨by decide, by decide⟩ (by decide) (fun _ _ => trivial) (Nat.le_of_ble_eq_true rfl) (ks' := 27) rfl (Nat.le_of_ble_eq_true rfl) hm2 ?_
  obtain ⟨m3, em3⟩ : ∃ z, z = aln m2 ((101 : Nat) : Int) 9 := ⟨_, rfl⟩
  refine v_nM em3 ?_
  have hm3 : m3 0 0 = (o + 4) := by rw [em3]; exact aln_nxo hm2 ho (by decide) rfl
  have obm3 : OB m3 o 9 := by rw [em3]; exact aln_ob obm2 (o_lt0 hm2 (by decide))
  refine cpA F fz_X9_18 (fun _ => hnm) dX9_init_25 obm3 rfl rfl ?_
  obtain ⟨d3, ed3⟩ : ∃ z, z = st d2 o 3 (o + 3) := ⟨_, rfl⟩
  refine v_nD ed3 ?_
  refine v_aload_n F dX9_init_28 rfl rfl ?_
  refine v_bipush F dX9_init_29 rfl ⟨by decide, by decide⟩ ?_
  refine v_newa (t := 101) (ty := .int) F dX9_init_31 rfl rfl ⟨by decide, by decide⟩ rfl (fun _ _ => rfl) rfl q348 ⟨by decide, by decide⟩ (by decide) (fun _ _ => trivial) (Nat.le_of_ble_eq_true rfl) (ks' := 36) rfl (Nat.le_of_ble_eq_true rfl) hm3 ?_
  obtain ⟨m4, em4⟩ : ∃ z, z = aln m3 ((101 : Nat) : Int) 9 := ⟨_, rfl⟩
  refine v_nM em4 ?_
  have hm4 : m4 0 0 = (o + 5) := by rw [em4]; exact aln_nxo hm3 ho (by decide) rfl
  have obm4 : OB m4 o 9 := by rw [em4]; exact aln_ob obm3 (o_lt0 hm3 (by decide))
  refine cpA F fz_X9_21 (fun _ => hnm) dX9_init_33 obm4 rfl rfl ?_
  obtain ⟨d4, ed4⟩ : ∃ z, z = st d3 o 4 (o + 4) := ⟨_, rfl⟩
  refine v_nD ed4 ?_
  refine v_aload_n F dX9_init_36 rfl rfl ?_
  refine v_bipush F dX9_init_37 rfl ⟨by decide, by decide⟩ ?_
  refine v_newa (t := 103) (ty := .boolean) F dX9_init_39 rfl rfl ⟨by decide, by decide⟩ rfl (fun _ _ => rfl) rfl q533 ⟨by decide, by decide⟩ (by decide) (fun _ _ => trivial) (Nat.le_of_ble_eq_true rfl) (ks' := 45) rfl (Nat.le_of_ble_eq_true rfl) hm4 ?_
  obtain ⟨m5, em5⟩ : ∃ z, z = aln m4 ((103 : Nat) : Int) 9 := ⟨_, rfl⟩
  refine v_nM em5 ?_
  have hm5 : m5 0 0 = (o + 6) := by rw [em5]; exact aln_nxo hm4 ho (by decide) rfl
  have obm5 : OB m5 o 9 := by rw [em5]; exact aln_ob obm4 (o_lt0 hm4 (by decide))
  refine cpA F fz_X9_24 (fun _ => hnm) dX9_init_41 obm5 rfl rfl ?_
  obtain ⟨d5, ed5⟩ : ∃ z, z = st d4 o 5 (o + 5) := ⟨_, rfl⟩
  refine v_nD ed5 ?_
  refine v_aload_n F dX9_init_44 rfl rfl ?_
  refine v_bipush F dX9_init_45 rfl ⟨by decide, by decide⟩ ?_
  refine v_newa (t := 101) (ty := .int) F dX9_init_47 rfl rfl ⟨by decide, by decide⟩ rfl (fun _ _ => rfl) rfl q348 ⟨by decide, by decide⟩ (by decide) (fun _ _ => trivial) (Nat.le_of_ble_eq_true rfl) (ks' := 54) rfl (Nat.le_of_ble_eq_true rfl) hm5 ?_
  obtain ⟨m6, em6⟩ : ∃ z, z = aln m5 ((101 : Nat) : Int) 9 := ⟨_, rfl⟩
  refine v_nM em6 ?_
  have hm6 : m6 0 0 = (o + 7) := by rw [em6]; exact aln_nxo hm5 ho (by decide) rfl
  have obm6 : OB m6 o 9 := by rw [em6]; exact aln_ob obm5 (o_lt0 hm5 (by decide))
  refine cpA F fz_X9_28 (fun _ => hnm) dX9_init_49 obm6 rfl rfl ?_
  obtain ⟨d6, ed6⟩ : ∃ z, z = st d5 o 7 (o + 6) := ⟨_, rfl⟩
  refine v_nD ed6 ?_
  refine v_aload_n F dX9_init_52 rfl rfl ?_
  refine v_bipush F dX9_init_53 rfl ⟨by decide, by decide⟩ ?_
  refine v_newa (t := 101) (ty := .int) F dX9_init_55 rfl rfl ⟨by decide, by decide⟩ rfl (fun _ _ => rfl) rfl q348 ⟨by decide, by decide⟩ (by decide) (fun _ _ => trivial) (Nat.le_of_ble_eq_true rfl) (ks' := 63) rfl (Nat.le_of_ble_eq_true rfl) hm6 ?_
  obtain ⟨m7, em7⟩ : ∃ z, z = aln m6 ((101 : Nat) : Int) 9 := ⟨_, rfl⟩
  refine v_nM em7 ?_
  have hm7 : m7 0 0 = (o + 8) := by rw [em7]; exact aln_nxo hm6 ho (by decide) rfl
  have obm7 : OB m7 o 9 := by rw [em7]; exact aln_ob obm6 (o_lt0 hm6 (by decide))
  refine cpA F fz_X9_31 (fun _ => hnm) dX9_init_57 obm7 rfl rfl ?_
  obtain ⟨d7, ed7⟩ : ∃ z, z = st d6 o 8 (o + 7) := ⟨_, rfl⟩
  refine v_nD ed7 ?_
  have ed : d7 = wr o WSX9_init d := by rw [wf_X9_init]; rw [ed7, ed6, ed5, ed4, ed3, ed2, ed1]
  have em : m7 = al TSX9_init m := by rw [tf_X9_init]; rw [em7, em6, em5, em4, em3, em2, em1]
  rw [← ed, ← em]
  exact v_vret F dX9_init_60
def WSX10_init : List (Int × Int × Int × Int) := [(0, 0, 1, 1), (2, (-1), 60, 0), (0, 1, 2, 1), (63, (-1), 60, 0), (0, 2, 63, 1)]
def TSX10_init : List (Int × Int × Int × Int) := [(101, 60, 0, 0), (106, 60, 102, 54), (106, 60, 102, 54)]
theorem alX10_init : alN TSX10_init = 123 := rfl
theorem wf_X10_init (o : Int) (d : Dt) : wr o WSX10_init d = (st (mlD (st (mlD (st d o 0 (o + 1)) (o + 2) 60) o 1 (o + 2)) (o + 63) 60) o 2 (o + 63)) := by
  simp [WSX10_init, wr, shf, adr]
theorem tf_X10_init (m : Dt) : al TSX10_init m = (mlt (mlt (aln m ((101 : Nat) : Int) 60) ((106 : Nat) : Int) 60 ((102 : Nat) : Int) 54) ((106 : Nat) : Int) 60 ((102 : Nat) : Int) 54) := by
  simp [TSX10_init, al]
theorem vm_X10_init {w : Wd} {l : Launch} {d m : Dt} {o : Int} (hm : m 0 0 = o + 1) (obm : OB m o 10) : VM w l XT yX10_init cX10_init 1 none 1 20 123 6660 d m [mA o] none (wr o WSX10_init d) (al TSX10_init m) := by
  have ho := obm.1
  refine VM.of (L := [mA o]) (by decide +kernel) rfl (Nat.le_of_ble_eq_true rfl) fun G F hnm => ?_
  refine v_aload_n F dX10_init_0 rfl rfl ?_
  refine v_objI F obm.1 dX10_init_1 q955 q315 q316 (Nat.le_of_ble_eq_true rfl) (Nat.le_of_ble_eq_true rfl) (Nat.le_of_ble_eq_true rfl) ?_
  refine v_aload_n F dX10_init_4 rfl rfl ?_
  refine v_bipush F dX10_init_5 rfl ⟨by decide, by decide⟩ ?_
  refine v_newa (t := 101) (ty := .int) F dX10_init_7 rfl rfl ⟨by decide, by decide⟩ rfl (fun _ _ => rfl) rfl q348 ⟨by decide, by decide⟩ (by decide) (fun _ _ => trivial) (Nat.le_of_ble_eq_true rfl) (ks' := 60) rfl (Nat.le_of_ble_eq_true rfl) hm ?_
  obtain ⟨m1, em1⟩ : ∃ z, z = aln m ((101 : Nat) : Int) 60 := ⟨_, rfl⟩
  refine v_nM em1 ?_
  have hm1 : m1 0 0 = (o + 2) := by rw [em1]; exact aln_nxo hm ho (by decide) rfl
  have obm1 : OB m1 o 10 := by rw [em1]; exact aln_ob obm (o_lt0 hm (by decide))
  refine cpA F fz_X10_9 (fun _ => hnm) dX10_init_9 obm1 rfl rfl ?_
  obtain ⟨d1, ed1⟩ : ∃ z, z = st d o 0 (o + 1) := ⟨_, rfl⟩
  refine v_nD ed1 ?_
  refine v_aload_n F dX10_init_12 rfl rfl ?_
  refine v_bipush F dX10_init_13 rfl ⟨by decide, by decide⟩ ?_
  refine v_bipush F dX10_init_15 rfl ⟨by decide, by decide⟩ ?_
  refine v_multi (t := 106) (t2 := 102) (ty := .byte) F dX10_init_17 rfl rfl ⟨by decide, by decide⟩ ⟨by decide, by decide⟩ rfl rfl (fun _ _ => rfl) rfl (by decide) (by decide) (by decide) q956 q703 q347 (by decide) ⟨by decide, by decide⟩ ⟨by decide, by decide⟩ (fun _ _ => trivial) (kc' := 62) rfl (Nat.le_of_ble_eq_true rfl) (ks' := 3360) rfl (Nat.le_of_ble_eq_true rfl) hm1 ?_
  rw [hm1]
  obtain ⟨m2, em2⟩ : ∃ z, z = mlt m1 ((106 : Nat) : Int) 60 ((102 : Nat) : Int) 54 := ⟨_, rfl⟩
  refine v_nM em2 ?_
  have hm2 : m2 0 0 = (o + 63) := by rw [em2]; exact mlt_nxo hm1 ho (by decide) rfl
  have obm2 : OB m2 o 10 := by rw [em2]; exact mlt_ob obm1 (o_lt0 hm1 (by decide)) (by decide)
  obtain ⟨d2, ed2⟩ : ∃ z, z = mlD d1 (o + 2) 60 := ⟨_, rfl⟩
  refine v_nD ed2 ?_
  refine cpA F fz_X10_17 (fun _ => hnm) dX10_init_21 obm2 rfl rfl ?_
  obtain ⟨d3, ed3⟩ : ∃ z, z = st d2 o 1 (o + 2) := ⟨_, rfl⟩
  refine v_nD ed3 ?_
  refine v_aload_n F dX10_init_24 rfl rfl ?_
  refine v_bipush F dX10_init_25 rfl ⟨by decide, by decide⟩ ?_
  refine v_bipush F dX10_init_27 rfl ⟨by decide, by decide⟩ ?_
  refine v_multi (t := 106) (t2 := 102) (ty := .byte) F dX10_init_29 rfl rfl ⟨by decide, by decide⟩ ⟨by decide, by decide⟩ rfl rfl (fun _ _ => rfl) rfl (by decide) (by decide) (by decide) q956 q703 q347 (by decide) ⟨by decide, by decide⟩ ⟨by decide, by decide⟩ (fun _ _ => trivial) (kc' := 123) rfl (Nat.le_of_ble_eq_true rfl) (ks' := 6660) rfl (Nat.le_of_ble_eq_true rfl) hm2 ?_
  rw [hm2]
  obtain ⟨m3, em3⟩ : ∃ z, z = mlt m2 ((106 : Nat) : Int) 60 ((102 : Nat) : Int) 54 := ⟨_, rfl⟩
  refine v_nM em3 ?_
  have hm3 : m3 0 0 = (o + 124) := by rw [em3]; exact mlt_nxo hm2 ho (by decide) rfl
  have obm3 : OB m3 o 10 := by rw [em3]; exact mlt_ob obm2 (o_lt0 hm2 (by decide)) (by decide)
  obtain ⟨d4, ed4⟩ : ∃ z, z = mlD d3 (o + 63) 60 := ⟨_, rfl⟩
  refine v_nD ed4 ?_
  refine cpA F fz_X10_20 (fun _ => hnm) dX10_init_33 obm3 rfl rfl ?_
  obtain ⟨d5, ed5⟩ : ∃ z, z = st d4 o 2 (o + 63) := ⟨_, rfl⟩
  refine v_nD ed5 ?_
  have ed : d5 = wr o WSX10_init d := by rw [wf_X10_init]; rw [ed5, ed4, ed3, ed2, ed1]
  have em : m3 = al TSX10_init m := by rw [tf_X10_init]; rw [em3, em2, em1]
  rw [← ed, ← em]
  exact v_vret F dX10_init_36
