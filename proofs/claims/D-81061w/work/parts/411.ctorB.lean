set_option maxRecDepth 100000
set_option maxHeartbeats 4000000
def WSX4_init : List (Int × Int × Int × Int) := [(0, 0, 1, 1), (2, 0, 3, 1), (0, 6, 2, 1), (4, 0, 5, 1), (0, 7, 4, 1), (0, 8, 6, 1), (0, 9, 7, 1), (0, 10, 8, 1), (0, 11, 9, 1), (0, 12, 10, 1), (0, 13, 11, 1), (0, 15, 12, 1), (11, 0, 13, 1), (11, 1, 14, 1), (11, 2, 15, 1), (11, 3, 16, 1), (11, 4, 17, 1), (11, 5, 18, 1)]
def TSX4_init : List (Int × Int × Int × Int) := [(101, 4, 0, 0), (6, 0, 0, 0), (101, 4000, 0, 0), (6, 0, 0, 0), (101, 4000, 0, 0), (101, 40, 0, 0), (101, 40, 0, 0), (101, 40, 0, 0), (101, 40, 0, 0), (103, 40, 0, 0), (114, 6, 0, 0), (103, 41, 0, 0), (7, 0, 0, 0), (7, 0, 0, 0), (7, 0, 0, 0), (7, 0, 0, 0), (7, 0, 0, 0), (7, 0, 0, 0)]
theorem alX4_init : alN TSX4_init = 18 := rfl
theorem wf_X4_init (o : Int) (d : Dt) : wr o WSX4_init d = (st (wr (o + 18) WSX6_init (st (wr (o + 17) WSX6_init (st (wr (o + 16) WSX6_init (st (wr (o + 15) WSX6_init (st (wr (o + 14) WSX6_init (st (wr (o + 13) WSX6_init (st (st (st (st (st (st (st (st (wr (o + 4) WSX5_init (st (wr (o + 2) WSX5_init (st d o 0 (o + 1))) o 6 (o + 2))) o 7 (o + 4)) o 8 (o + 6)) o 9 (o + 7)) o 10 (o + 8)) o 11 (o + 9)) o 12 (o + 10)) o 13 (o + 11)) o 15 (o + 12))) (o + 11) 0 (o + 13))) (o + 11) 1 (o + 14))) (o + 11) 2 (o + 15))) (o + 11) 3 (o + 16))) (o + 11) 4 (o + 17))) (o + 11) 5 (o + 18)) := by
  rw [wr_shf o 18, wr_shf o 17, wr_shf o 16, wr_shf o 15, wr_shf o 14, wr_shf o 13, wr_shf o 4, wr_shf o 2]; simp [WSX4_init, WSX5_init, WSX6_init, wr, shf, adr]
theorem tf_X4_init (m : Dt) : al TSX4_init m = (al TSX6_init (aln (al TSX6_init (aln (al TSX6_init (aln (al TSX6_init (aln (al TSX6_init (aln (al TSX6_init (aln (aln (aln (aln (aln (aln (aln (aln (al TSX5_init (aln (al TSX5_init (aln (aln m ((101 : Nat) : Int) 4) ((5 : Nat) + 1 : Int) 0)) ((5 : Nat) + 1 : Int) 0)) ((101 : Nat) : Int) 40) ((101 : Nat) : Int) 40) ((101 : Nat) : Int) 40) ((101 : Nat) : Int) 40) ((103 : Nat) : Int) 40) ((114 : Nat) : Int) 6) ((103 : Nat) : Int) 41) ((6 : Nat) + 1 : Int) 0)) ((6 : Nat) + 1 : Int) 0)) ((6 : Nat) + 1 : Int) 0)) ((6 : Nat) + 1 : Int) 0)) ((6 : Nat) + 1 : Int) 0)) ((6 : Nat) + 1 : Int) 0)) := by
  simp [TSX4_init, TSX5_init, TSX6_init, al]
theorem vm_X4_init {w : Wd} {l : Launch} {d m : Dt} {o : Int} (hm : m 0 0 = o + 1) (obm : OB m o 4) : VM w l XT yX4_init cX4_init 2 none 2 40 18 8307 d m [mA o] none (wr o WSX4_init d) (al TSX4_init m) := by
  have ho := obm.1
  refine VM.of (L := [mA o, mU]) (by decide +kernel) rfl (Nat.le_of_ble_eq_true rfl) fun G F hnm => ?_
  refine v_aload_n F dX4_init_0 rfl rfl ?_
  refine v_objI F obm.1 dX4_init_1 q539 q315 q316 (Nat.le_of_ble_eq_true rfl) (Nat.le_of_ble_eq_true rfl) (Nat.le_of_ble_eq_true rfl) ?_
  refine v_aload_n F dX4_init_4 rfl rfl ?_
  refine v_iconst F dX4_init_5 ⟨by decide, by decide⟩ ?_
  refine v_newa (t := 101) (ty := .int) F dX4_init_6 rfl rfl ⟨by decide, by decide⟩ rfl (fun _ _ => rfl) rfl q348 ⟨by decide, by decide⟩ (by decide) (fun _ _ => trivial) (Nat.le_of_ble_eq_true rfl) (ks' := 4) rfl (Nat.le_of_ble_eq_true rfl) hm ?_
  obtain ⟨m1, em1⟩ : ∃ z, z = aln m ((101 : Nat) : Int) 4 := ⟨_, rfl⟩
  refine v_nM em1 ?_
  have hm1 : m1 0 0 = (o + 2) := by rw [em1]; exact aln_nxo hm ho (by decide) rfl
  have obm1 : OB m1 o 4 := by rw [em1]; exact aln_ob obm (o_lt0 hm (by decide))
  refine cpA F fz_X4_9 (fun _ => hnm) dX4_init_8 obm1 rfl rfl ?_
  obtain ⟨d1, ed1⟩ : ∃ z, z = st d o 0 (o + 1) := ⟨_, rfl⟩
  refine v_nD ed1 ?_
  refine v_aload_n F dX4_init_11 rfl rfl ?_
  refine v_new (c := 5) (n := 4) F dX4_init_12 rfl (Nat.le_of_ble_eq_true rfl) rfl ok_X5 q540 q541 q290 in_X5 tyX5_ok (fun _ _ => trivial) (Nat.le_of_ble_eq_true rfl) (Nat.le_of_ble_eq_true rfl) hm1 ?_
  have hn2 : m1 0 0 = (o + 2) := hm1
  obtain ⟨m2, em2⟩ : ∃ z, z = aln m1 ((5 : Nat) + 1 : Int) 0 := ⟨_, rfl⟩
  refine v_nM em2 ?_
  have hm2 : m2 0 0 = (o + 3) := by rw [em2]; exact aln_nxo hm1 ho (by decide) rfl
  have obm2 : OB m2 o 4 := by rw [em2]; exact aln_ob obm1 (o_lt0 hm1 (by decide))
  have ob2m2 : OB m2 (o + 2) 5 := ⟨o_pos ho (by decide), by rw [em2, ← hn2]; exact aln_1⟩
  refine v_dup_A F dX4_init_15 ?_
  refine v_callI F dX4_init_16 cn_X4_17 rfl ob2m2.1 (vm_X5_init (o := (o + 2)) (hm2.trans (o_da rfl)) ob2m2) rfl (rOk.of rfl) ?_
  obtain ⟨m3, em3⟩ : ∃ z, z = al TSX5_init m2 := ⟨_, rfl⟩
  refine v_nM em3 ?_
  have hm3 : m3 0 0 = (o + 4) := by rw [em3]; exact al_nxo rfl hm2 ho (by decide) alX5_init rfl
  have obm3 : OB m3 o 4 := by rw [em3]; exact al_ob rfl obm2 (o_lt0 hm2 (by decide))
  have ob2m3 : OB m3 (o + 2) 5 := by rw [em3]; exact al_ob rfl ob2m2 (o_lt hm2 (by decide))
  obtain ⟨d2, ed2⟩ : ∃ z, z = wr (o + 2) WSX5_init d1 := ⟨_, rfl⟩
  refine v_nD ed2 ?_
  refine cpA F fz_X4_18 (fun _ => hnm) dX4_init_19 obm3 rfl rfl ?_
  obtain ⟨d3, ed3⟩ : ∃ z, z = st d2 o 6 (o + 2) := ⟨_, rfl⟩
  refine v_nD ed3 ?_
  refine v_aload_n F dX4_init_22 rfl rfl ?_
  refine v_new (c := 5) (n := 4) F dX4_init_23 rfl (Nat.le_of_ble_eq_true rfl) rfl ok_X5 q540 q541 q290 in_X5 tyX5_ok (fun _ _ => trivial) (Nat.le_of_ble_eq_true rfl) (Nat.le_of_ble_eq_true rfl) hm3 ?_
  have hn4 : m3 0 0 = (o + 4) := hm3
  obtain ⟨m4, em4⟩ : ∃ z, z = aln m3 ((5 : Nat) + 1 : Int) 0 := ⟨_, rfl⟩
  refine v_nM em4 ?_
  have hm4 : m4 0 0 = (o + 5) := by rw [em4]; exact aln_nxo hm3 ho (by decide) rfl
  have obm4 : OB m4 o 4 := by rw [em4]; exact aln_ob obm3 (o_lt0 hm3 (by decide))
  have ob4m4 : OB m4 (o + 4) 5 := ⟨o_pos ho (by decide), by rw [em4, ← hn4]; exact aln_1⟩
  refine v_dup_A F dX4_init_26 ?_
  refine v_callI F dX4_init_27 cn_X4_17 rfl ob4m4.1 (vm_X5_init (o := (o + 4)) (hm4.trans (o_da rfl)) ob4m4) rfl (rOk.of rfl) ?_
  obtain ⟨m5, em5⟩ : ∃ z, z = al TSX5_init m4 := ⟨_, rfl⟩
  refine v_nM em5 ?_
  have hm5 : m5 0 0 = (o + 6) := by rw [em5]; exact al_nxo rfl hm4 ho (by decide) alX5_init rfl
  have obm5 : OB m5 o 4 := by rw [em5]; exact al_ob rfl obm4 (o_lt0 hm4 (by decide))
  have ob4m5 : OB m5 (o + 4) 5 := by rw [em5]; exact al_ob rfl ob4m4 (o_lt hm4 (by decide))
  obtain ⟨d4, ed4⟩ : ∃ z, z = wr (o + 4) WSX5_init d3 := ⟨_, rfl⟩
  refine v_nD ed4 ?_
  refine cpA F fz_X4_22 (fun _ => hnm) dX4_init_30 obm5 rfl rfl ?_
  obtain ⟨d5, ed5⟩ : ∃ z, z = st d4 o 7 (o + 4) := ⟨_, rfl⟩
  refine v_nD ed5 ?_
  refine v_aload_n F dX4_init_33 rfl rfl ?_
  refine v_bipush F dX4_init_34 rfl ⟨by decide, by decide⟩ ?_
  refine v_newa (t := 101) (ty := .int) F dX4_init_36 rfl rfl ⟨by decide, by decide⟩ rfl (fun _ _ => rfl) rfl q348 ⟨by decide, by decide⟩ (by decide) (fun _ _ => trivial) (Nat.le_of_ble_eq_true rfl) (ks' := 8052) rfl (Nat.le_of_ble_eq_true rfl) hm5 ?_
  obtain ⟨m6, em6⟩ : ∃ z, z = aln m5 ((101 : Nat) : Int) 40 := ⟨_, rfl⟩
  refine v_nM em6 ?_
  have hm6 : m6 0 0 = (o + 7) := by rw [em6]; exact aln_nxo hm5 ho (by decide) rfl
  have obm6 : OB m6 o 4 := by rw [em6]; exact aln_ob obm5 (o_lt0 hm5 (by decide))
  refine cpA F fz_X4_25 (fun _ => hnm) dX4_init_38 obm6 rfl rfl ?_
  obtain ⟨d6, ed6⟩ : ∃ z, z = st d5 o 8 (o + 6) := ⟨_, rfl⟩
  refine v_nD ed6 ?_
  refine v_aload_n F dX4_init_41 rfl rfl ?_
  refine v_bipush F dX4_init_42 rfl ⟨by decide, by decide⟩ ?_
  refine v_newa (t := 101) (ty := .int) F dX4_init_44 rfl rfl ⟨by decide, by decide⟩ rfl (fun _ _ => rfl) rfl q348 ⟨by decide, by decide⟩ (by decide) (fun _ _ => trivial) (Nat.le_of_ble_eq_true rfl) (ks' := 8092) rfl (Nat.le_of_ble_eq_true rfl) hm6 ?_
  obtain ⟨m7, em7⟩ : ∃ z, z = aln m6 ((101 : Nat) : Int) 40 := ⟨_, rfl⟩
  refine v_nM em7 ?_
  have hm7 : m7 0 0 = (o + 8) := by rw [em7]; exact aln_nxo hm6 ho (by decide) rfl
  have obm7 : OB m7 o 4 := by rw [em7]; exact aln_ob obm6 (o_lt0 hm6 (by decide))
  refine cpA F fz_X4_28 (fun _ => hnm) dX4_init_46 obm7 rfl rfl ?_
  obtain ⟨d7, ed7⟩ : ∃ z, z = st d6 o 9 (o + 7) := ⟨_, rfl⟩
  refine v_nD ed7 ?_
  refine v_aload_n F dX4_init_49 rfl rfl ?_
  refine v_bipush F dX4_init_50 rfl ⟨by decide, by decide⟩ ?_
  refine v_newa (t := 101) (ty := .int) F dX4_init_52 rfl rfl ⟨by decide, by decide⟩ rfl (fun _ _ => rfl) rfl q348 ⟨by decide, by decide⟩ (by decide) (fun _ _ => trivial) (Nat.le_of_ble_eq_true rfl) (ks' := 8132) rfl (Nat.le_of_ble_eq_true rfl) hm7 ?_
  obtain ⟨m8, em8⟩ : ∃ z, z = aln m7 ((101 : Nat) : Int) 40 := ⟨_, rfl⟩
  refine v_nM em8 ?_
  have hm8 : m8 0 0 = (o + 9) := by rw [em8]; exact aln_nxo hm7 ho (by decide) rfl
  have obm8 : OB m8 o 4 := by rw [em8]; exact aln_ob obm7 (o_lt0 hm7 (by decide))
  refine cpA F fz_X4_31 (fun _ => hnm) dX4_init_54 obm8 rfl rfl ?_
  obtain ⟨d8, ed8⟩ : ∃ z, z = st d7 o 10 (o + 8) := ⟨_, rfl⟩
  refine v_nD ed8 ?_
  refine v_aload_n F dX4_init_57 rfl rfl ?_
  refine v_bipush F dX4_init_58 rfl ⟨by decide, by decide⟩ ?_
  refine v_newa (t := 101) (ty := .int) F dX4_init_60 rfl rfl ⟨by decide, by decide⟩ rfl (fun _ _ => rfl) rfl q348 ⟨by decide, by decide⟩ (by decide) (fun _ _ => trivial) (Nat.le_of_ble_eq_true rfl) (ks' := 8172) rfl (Nat.le_of_ble_eq_true rfl) hm8 ?_
  obtain ⟨m9, em9⟩ : ∃ z, z = aln m8 ((101 : Nat) : Int) 40 := ⟨_, rfl⟩
  refine v_nM em9 ?_
  have hm9 : m9 0 0 = (o + 10) := by rw [em9]; exact aln_nxo hm8 ho (by decide) rfl
  have obm9 : OB m9 o 4 := by rw [em9]; exact aln_ob obm8 (o_lt0 hm8 (by decide))
  refine cpA F fz_X4_34 (fun _ => hnm) dX4_init_62 obm9 rfl rfl ?_
  obtain ⟨d9, ed9⟩ : ∃ z, z = st d8 o 11 (o + 9) := ⟨_, rfl⟩
  refine v_nD ed9 ?_
  refine v_aload_n F dX4_init_65 rfl rfl ?_
  refine v_bipush F dX4_init_66 rfl ⟨by decide, by decide⟩ ?_
  refine v_newa (t := 103) (ty := .boolean) F dX4_init_68 rfl rfl ⟨by decide, by decide⟩ rfl (fun _ _ => rfl) rfl q533 ⟨by decide, by decide⟩ (by decide) (fun _ _ => trivial) (Nat.le_of_ble_eq_true rfl) (ks' := 8212) rfl (Nat.le_of_ble_eq_true rfl) hm9 ?_
  obtain ⟨m10, em10⟩ : ∃ z, z = aln m9 ((103 : Nat) : Int) 40 := ⟨_, rfl⟩
  refine v_nM em10 ?_
  have hm10 : m10 0 0 = (o + 11) := by rw [em10]; exact aln_nxo hm9 ho (by decide) rfl
  have obm10 : OB m10 o 4 := by rw [em10]; exact aln_ob obm9 (o_lt0 hm9 (by decide))
  refine cpA F fz_X4_37 (fun _ => hnm) dX4_init_70 obm10 rfl rfl ?_
  obtain ⟨d10, ed10⟩ : ∃ z, z = st d9 o 12 (o + 10) := ⟨_, rfl⟩
  refine v_nD ed10 ?_
  refine v_aload_n F dX4_init_73 rfl rfl ?_
  refine v_bipush F dX4_init_74 rfl ⟨by decide, by decide⟩ ?_
  refine v_anew (t := 114) (C := "ElectionHouse$Way") F dX4_init_76 rfl ⟨by decide, by decide⟩ rfl q564 q565 ⟨by decide, by decide⟩ (fun _ _ => trivial) (Nat.le_of_ble_eq_true rfl) (ks' := 8218) rfl (Nat.le_of_ble_eq_true rfl) hm10 ?_
  obtain ⟨m11, em11⟩ : ∃ z, z = aln m10 ((114 : Nat) : Int) 6 := ⟨_, rfl⟩
  refine v_nM em11 ?_
  have hm11 : m11 0 0 = (o + 12) := by rw [em11]; exact aln_nxo hm10 ho (by decide) rfl
  have obm11 : OB m11 o 4 := by rw [em11]; exact aln_ob obm10 (o_lt0 hm10 (by decide))
  have ar11m11 : AR m11 (o + 11) 114 6 := ⟨o_pos ho (by decide), by rw [em11, ← hm10]; exact aln_1, by rw [em11, ← hm10]; exact aln_2⟩
  refine cpA F fz_X4_43 (fun _ => hnm) dX4_init_79 obm11 rfl rfl ?_
  obtain ⟨d11, ed11⟩ : ∃ z, z = st d10 o 13 (o + 11) := ⟨_, rfl⟩
  refine v_nD ed11 ?_
  have f13d11 : d11 o 13 = (o + 11) := by rw [ed11, st_eq]
  refine v_aload_n F dX4_init_82 rfl rfl ?_
  refine v_bipush F dX4_init_83 rfl ⟨by decide, by decide⟩ ?_
  refine v_newa (t := 103) (ty := .boolean) F dX4_init_85 rfl rfl ⟨by decide, by decide⟩ rfl (fun _ _ => rfl) rfl q533 ⟨by decide, by decide⟩ (by decide) (fun _ _ => trivial) (Nat.le_of_ble_eq_true rfl) (ks' := 8259) rfl (Nat.le_of_ble_eq_true rfl) hm11 ?_
  obtain ⟨m12, em12⟩ : ∃ z, z = aln m11 ((103 : Nat) : Int) 41 := ⟨_, rfl⟩
  refine v_nM em12 ?_
  have hm12 : m12 0 0 = (o + 13) := by rw [em12]; exact aln_nxo hm11 ho (by decide) rfl
  have obm12 : OB m12 o 4 := by rw [em12]; exact aln_ob obm11 (o_lt0 hm11 (by decide))
  have ar11m12 : AR m12 (o + 11) 114 6 := by rw [em12]; exact aln_ar ar11m11 (o_lt hm11 (by decide))
  refine cpA F fz_X4_47 (fun _ => hnm) dX4_init_87 obm12 rfl rfl ?_
  obtain ⟨d12, ed12⟩ : ∃ z, z = st d11 o 15 (o + 12) := ⟨_, rfl⟩
  refine v_nD ed12 ?_
  have f13d12 : d12 o 13 = (o + 11) := by rw [ed12, st_nk (by decide)]; exact f13d11
  refine v_iconst F dX4_init_90 ⟨by decide, by decide⟩ ?_
  refine v_istore_n F dX4_init_91 rfl (Nat.le_of_ble_eq_true rfl) (L' := [mA o, mI 0]) rfl ?_
  refine v_iload_n F dX4_init_92 rfl rfl ?_
  refine v_bipush F dX4_init_93 rfl ⟨by decide, by decide⟩ ?_
  refine v_icmp_ge F dX4_init_95 rfl (fun h => absurd h (show ¬ (6 : Int) ≤ 0 from by decide)) (fun _ => ?_)
  refine v_aload_n F dX4_init_98 rfl rfl ?_
  refine v_getA F fg_X4_43 dX4_init_99 obm12 rfl f13d12 ?_
  refine v_iload_n F dX4_init_102 rfl rfl ?_
  refine v_new (c := 6) (n := 8) F dX4_init_103 rfl (Nat.le_of_ble_eq_true rfl) rfl ok_X6 q564 q566 q291 in_X6 tyX6_ok (fun _ _ => trivial) (Nat.le_of_ble_eq_true rfl) (Nat.le_of_ble_eq_true rfl) hm12 ?_
  have hn13 : m12 0 0 = (o + 13) := hm12
  obtain ⟨m13, em13⟩ : ∃ z, z = aln m12 ((6 : Nat) + 1 : Int) 0 := ⟨_, rfl⟩
  refine v_nM em13 ?_
  have hm13 : m13 0 0 = (o + 14) := by rw [em13]; exact aln_nxo hm12 ho (by decide) rfl
  have obm13 : OB m13 o 4 := by rw [em13]; exact aln_ob obm12 (o_lt0 hm12 (by decide))
  have ar11m13 : AR m13 (o + 11) 114 6 := by rw [em13]; exact aln_ar ar11m12 (o_lt hm12 (by decide))
  have ob13m13 : OB m13 (o + 13) 6 := ⟨o_pos ho (by decide), by rw [em13, ← hn13]; exact aln_1⟩
  refine v_dup_A F dX4_init_106 ?_
  refine v_callI F dX4_init_107 cn_X4_50 rfl ob13m13.1 (vm_X6_init (o := (o + 13)) (hm13.trans (o_da rfl)) ob13m13) rfl (rOk.of rfl) ?_
  obtain ⟨m14, em14⟩ : ∃ z, z = al TSX6_init m13 := ⟨_, rfl⟩
  refine v_nM em14 ?_
  have hm14 : m14 0 0 = (o + 14) := by rw [em14]; exact al_nxo rfl hm13 ho (by decide) alX6_init rfl
  have obm14 : OB m14 o 4 := by rw [em14]; exact al_ob rfl obm13 (o_lt0 hm13 (by decide))
  have ar11m14 : AR m14 (o + 11) 114 6 := by rw [em14]; exact al_ar rfl ar11m13 (o_lt hm13 (by decide))
  have ob13m14 : OB m14 (o + 13) 6 := by rw [em14]; exact al_ob rfl ob13m13 (o_lt hm13 (by decide))
  obtain ⟨d13, ed13⟩ : ∃ z, z = wr (o + 13) WSX6_init d12 := ⟨_, rfl⟩
  refine v_nD ed13 ?_
  have f13d13 : d13 o 13 = (o + 11) := by rw [ed13, wr_lt rfl (o_l1 (by decide))]; exact f13d12
  refine v_aastO (t := 114) (c := 6) F dX4_init_110 ar11m14 (Nat.le_of_ble_eq_true rfl) rfl rfl rfl ob13m14 (Nat.le_of_ble_eq_true rfl) ⟨by decide, by decide⟩ (fun _ _ => trivial) ?_
  obtain ⟨d14, ed14⟩ : ∃ z, z = st d13 (o + 11) 0 (o + 13) := ⟨_, rfl⟩
  refine v_nD ed14 ?_
  have f13d14 : d14 o 13 = (o + 11) := by rw [ed14, st_na (o_ne (by decide))]; exact f13d13
  refine v_iincN F dX4_init_111 (Nat.le_of_ble_eq_true rfl) rfl (y := 1) (by decide) (L' := [mA o, mI 1]) rfl ?_
  refine v_goto F dX4_init_114 rfl ?_
  refine v_iload_n F dX4_init_92 rfl rfl ?_
  refine v_bipush F dX4_init_93 rfl ⟨by decide, by decide⟩ ?_
  refine v_icmp_ge F dX4_init_95 rfl (fun h => absurd h (show ¬ (6 : Int) ≤ 1 from by decide)) (fun _ => ?_)
  refine v_aload_n F dX4_init_98 rfl rfl ?_
  refine v_getA F fg_X4_43 dX4_init_99 obm14 rfl f13d14 ?_
  refine v_iload_n F dX4_init_102 rfl rfl ?_
  refine v_new (c := 6) (n := 8) F dX4_init_103 rfl (Nat.le_of_ble_eq_true rfl) rfl ok_X6 q564 q566 q291 in_X6 tyX6_ok (fun _ _ => trivial) (Nat.le_of_ble_eq_true rfl) (Nat.le_of_ble_eq_true rfl) hm14 ?_
  have hn14 : m14 0 0 = (o + 14) := hm14
  obtain ⟨m15, em15⟩ : ∃ z, z = aln m14 ((6 : Nat) + 1 : Int) 0 := ⟨_, rfl⟩
  refine v_nM em15 ?_
  have hm15 : m15 0 0 = (o + 15) := by rw [em15]; exact aln_nxo hm14 ho (by decide) rfl
  have obm15 : OB m15 o 4 := by rw [em15]; exact aln_ob obm14 (o_lt0 hm14 (by decide))
  have ar11m15 : AR m15 (o + 11) 114 6 := by rw [em15]; exact aln_ar ar11m14 (o_lt hm14 (by decide))
  have ob14m15 : OB m15 (o + 14) 6 := ⟨o_pos ho (by decide), by rw [em15, ← hn14]; exact aln_1⟩
  refine v_dup_A F dX4_init_106 ?_
  refine v_callI F dX4_init_107 cn_X4_50 rfl ob14m15.1 (vm_X6_init (o := (o + 14)) (hm15.trans (o_da rfl)) ob14m15) rfl (rOk.of rfl) ?_
  obtain ⟨m16, em16⟩ : ∃ z, z = al TSX6_init m15 := ⟨_, rfl⟩
  refine v_nM em16 ?_
  have hm16 : m16 0 0 = (o + 15) := by rw [em16]; exact al_nxo rfl hm15 ho (by decide) alX6_init rfl
  have obm16 : OB m16 o 4 := by rw [em16]; exact al_ob rfl obm15 (o_lt0 hm15 (by decide))
  have ar11m16 : AR m16 (o + 11) 114 6 := by rw [em16]; exact al_ar rfl ar11m15 (o_lt hm15 (by decide))
  have ob14m16 : OB m16 (o + 14) 6 := by rw [em16]; exact al_ob rfl ob14m15 (o_lt hm15 (by decide))
  obtain ⟨d15, ed15⟩ : ∃ z, z = wr (o + 14) WSX6_init d14 := ⟨_, rfl⟩
  refine v_nD ed15 ?_
  have f13d15 : d15 o 13 = (o + 11) := by rw [ed15, wr_lt rfl (o_l1 (by decide))]; exact f13d14
  refine v_aastO (t := 114) (c := 6) F dX4_init_110 ar11m16 (Nat.le_of_ble_eq_true rfl) rfl rfl rfl ob14m16 (Nat.le_of_ble_eq_true rfl) ⟨by decide, by decide⟩ (fun _ _ => trivial) ?_
  obtain ⟨d16, ed16⟩ : ∃ z, z = st d15 (o + 11) 1 (o + 14) := ⟨_, rfl⟩
  refine v_nD ed16 ?_
  have f13d16 : d16 o 13 = (o + 11) := by rw [ed16, st_na (o_ne (by decide))]; exact f13d15
  refine v_iincN F dX4_init_111 (Nat.le_of_ble_eq_true rfl) rfl (y := 2) (by decide) (L' := [mA o, mI 2]) rfl ?_
  refine v_goto F dX4_init_114 rfl ?_
  refine v_iload_n F dX4_init_92 rfl rfl ?_
  refine v_bipush F dX4_init_93 rfl ⟨by decide, by decide⟩ ?_
  refine v_icmp_ge F dX4_init_95 rfl (fun h => absurd h (show ¬ (6 : Int) ≤ 2 from by decide)) (fun _ => ?_)
  refine v_aload_n F dX4_init_98 rfl rfl ?_
  refine v_getA F fg_X4_43 dX4_init_99 obm16 rfl f13d16 ?_
  refine v_iload_n F dX4_init_102 rfl rfl ?_
  refine v_new (c := 6) (n := 8) F dX4_init_103 rfl (Nat.le_of_ble_eq_true rfl) rfl ok_X6 q564 q566 q291 in_X6 tyX6_ok (fun _ _ => trivial) (Nat.le_of_ble_eq_true rfl) (Nat.le_of_ble_eq_true rfl) hm16 ?_
  have hn15 : m16 0 0 = (o + 15) := hm16
  obtain ⟨m17, em17⟩ : ∃ z, z = aln m16 ((6 : Nat) + 1 : Int) 0 := ⟨_, rfl⟩
  refine v_nM em17 ?_
  have hm17 : m17 0 0 = (o + 16) := by rw [em17]; exact aln_nxo hm16 ho (by decide) rfl
  have obm17 : OB m17 o 4 := by rw [em17]; exact aln_ob obm16 (o_lt0 hm16 (by decide))
  have ar11m17 : AR m17 (o + 11) 114 6 := by rw [em17]; exact aln_ar ar11m16 (o_lt hm16 (by decide))
  have ob15m17 : OB m17 (o + 15) 6 := ⟨o_pos ho (by decide), by rw [em17, ← hn15]; exact aln_1⟩
  refine v_dup_A F dX4_init_106 ?_
  refine v_callI F dX4_init_107 cn_X4_50 rfl ob15m17.1 (vm_X6_init (o := (o + 15)) (hm17.trans (o_da rfl)) ob15m17) rfl (rOk.of rfl) ?_
  obtain ⟨m18, em18⟩ : ∃ z, z = al TSX6_init m17 := ⟨_, rfl⟩
  refine v_nM em18 ?_
  have hm18 : m18 0 0 = (o + 16) := by rw [em18]; exact al_nxo rfl hm17 ho (by decide) alX6_init rfl
  have obm18 : OB m18 o 4 := by rw [em18]; exact al_ob rfl obm17 (o_lt0 hm17 (by decide))
  have ar11m18 : AR m18 (o + 11) 114 6 := by rw [em18]; exact al_ar rfl ar11m17 (o_lt hm17 (by decide))
  have ob15m18 : OB m18 (o + 15) 6 := by rw [em18]; exact al_ob rfl ob15m17 (o_lt hm17 (by decide))
  obtain ⟨d17, ed17⟩ : ∃ z, z = wr (o + 15) WSX6_init d16 := ⟨_, rfl⟩
  refine v_nD ed17 ?_
  have f13d17 : d17 o 13 = (o + 11) := by rw [ed17, wr_lt rfl (o_l1 (by decide))]; exact f13d16
  refine v_aastO (t := 114) (c := 6) F dX4_init_110 ar11m18 (Nat.le_of_ble_eq_true rfl) rfl rfl rfl ob15m18 (Nat.le_of_ble_eq_true rfl) ⟨by decide, by decide⟩ (fun _ _ => trivial) ?_
  obtain ⟨d18, ed18⟩ : ∃ z, z = st d17 (o + 11) 2 (o + 15) := ⟨_, rfl⟩
  refine v_nD ed18 ?_
  have f13d18 : d18 o 13 = (o + 11) := by rw [ed18, st_na (o_ne (by decide))]; exact f13d17
  refine v_iincN F dX4_init_111 (Nat.le_of_ble_eq_true rfl) rfl (y := 3) (by decide) (L' := [mA o, mI 3]) rfl ?_
  refine v_goto F dX4_init_114 rfl ?_
  refine v_iload_n F dX4_init_92 rfl rfl ?_
  refine v_bipush F dX4_init_93 rfl ⟨by decide, by decide⟩ ?_
  refine v_icmp_ge F dX4_init_95 rfl (fun h => absurd h (show ¬ (6 : Int) ≤ 3 from by decide)) (fun _ => ?_)
  refine v_aload_n F dX4_init_98 rfl rfl ?_
  refine v_getA F fg_X4_43 dX4_init_99 obm18 rfl f13d18 ?_
  refine v_iload_n F dX4_init_102 rfl rfl ?_
  refine v_new (c := 6) (n := 8) F dX4_init_103 rfl (Nat.le_of_ble_eq_true rfl) rfl ok_X6 q564 q566 q291 in_X6 tyX6_ok (fun _ _ => trivial) (Nat.le_of_ble_eq_true rfl) (Nat.le_of_ble_eq_true rfl) hm18 ?_
  have hn16 : m18 0 0 = (o + 16) := hm18
  obtain ⟨m19, em19⟩ : ∃ z, z = aln m18 ((6 : Nat) + 1 : Int) 0 := ⟨_, rfl⟩
  refine v_nM em19 ?_
  have hm19 : m19 0 0 = (o + 17) := by rw [em19]; exact aln_nxo hm18 ho (by decide) rfl
  have obm19 : OB m19 o 4 := by rw [em19]; exact aln_ob obm18 (o_lt0 hm18 (by decide))
  have ar11m19 : AR m19 (o + 11) 114 6 := by rw [em19]; exact aln_ar ar11m18 (o_lt hm18 (by decide))
  have ob16m19 : OB m19 (o + 16) 6 := ⟨o_pos ho (by decide), by rw [em19, ← hn16]; exact aln_1⟩
  refine v_dup_A F dX4_init_106 ?_
  refine v_callI F dX4_init_107 cn_X4_50 rfl ob16m19.1 (vm_X6_init (o := (o + 16)) (hm19.trans (o_da rfl)) ob16m19) rfl (rOk.of rfl) ?_
  obtain ⟨m20, em20⟩ : ∃ z, z = al TSX6_init m19 := ⟨_, rfl⟩
  refine v_nM em20 ?_
  have hm20 : m20 0 0 = (o + 17) := by rw [em20]; exact al_nxo rfl hm19 ho (by decide) alX6_init rfl
  have obm20 : OB m20 o 4 := by rw [em20]; exact al_ob rfl obm19 (o_lt0 hm19 (by decide))
  have ar11m20 : AR m20 (o + 11) 114 6 := by rw [em20]; exact al_ar rfl ar11m19 (o_lt hm19 (by decide))
  have ob16m20 : OB m20 (o + 16) 6 := by rw [em20]; exact al_ob rfl ob16m19 (o_lt hm19 (by decide))
  obtain ⟨d19, ed19⟩ : ∃ z, z = wr (o + 16) WSX6_init d18 := ⟨_, rfl⟩
  refine v_nD ed19 ?_
  have f13d19 : d19 o 13 = (o + 11) := by rw [ed19, wr_lt rfl (o_l1 (by decide))]; exact f13d18
  refine v_aastO (t := 114) (c := 6) F dX4_init_110 ar11m20 (Nat.le_of_ble_eq_true rfl) rfl rfl rfl ob16m20 (Nat.le_of_ble_eq_true rfl) ⟨by decide, by decide⟩ (fun _ _ => trivial) ?_
  obtain ⟨d20, ed20⟩ : ∃ z, z = st d19 (o + 11) 3 (o + 16) := ⟨_, rfl⟩
  refine v_nD ed20 ?_
  have f13d20 : d20 o 13 = (o + 11) := by rw [ed20, st_na (o_ne (by decide))]; exact f13d19
  refine v_iincN F dX4_init_111 (Nat.le_of_ble_eq_true rfl) rfl (y := 4) (by decide) (L' := [mA o, mI 4]) rfl ?_
  refine v_goto F dX4_init_114 rfl ?_
  refine v_iload_n F dX4_init_92 rfl rfl ?_
  refine v_bipush F dX4_init_93 rfl ⟨by decide, by decide⟩ ?_
  refine v_icmp_ge F dX4_init_95 rfl (fun h => absurd h (show ¬ (6 : Int) ≤ 4 from by decide)) (fun _ => ?_)
  refine v_aload_n F dX4_init_98 rfl rfl ?_
  refine v_getA F fg_X4_43 dX4_init_99 obm20 rfl f13d20 ?_
  refine v_iload_n F dX4_init_102 rfl rfl ?_
  refine v_new (c := 6) (n := 8) F dX4_init_103 rfl (Nat.le_of_ble_eq_true rfl) rfl ok_X6 q564 q566 q291 in_X6 tyX6_ok (fun _ _ => trivial) (Nat.le_of_ble_eq_true rfl) (Nat.le_of_ble_eq_true rfl) hm20 ?_
  have hn17 : m20 0 0 = (o + 17) := hm20
  obtain ⟨m21, em21⟩ : ∃ z, z = aln m20 ((6 : Nat) + 1 : Int) 0 := ⟨_, rfl⟩
  refine v_nM em21 ?_
  have hm21 : m21 0 0 = (o + 18) := by rw [em21]; exact aln_nxo hm20 ho (by decide) rfl
  have obm21 : OB m21 o 4 := by rw [em21]; exact aln_ob obm20 (o_lt0 hm20 (by decide))
  have ar11m21 : AR m21 (o + 11) 114 6 := by rw [em21]; exact aln_ar ar11m20 (o_lt hm20 (by decide))
  have ob17m21 : OB m21 (o + 17) 6 := ⟨o_pos ho (by decide), by rw [em21, ← hn17]; exact aln_1⟩
  refine v_dup_A F dX4_init_106 ?_
  refine v_callI F dX4_init_107 cn_X4_50 rfl ob17m21.1 (vm_X6_init (o := (o + 17)) (hm21.trans (o_da rfl)) ob17m21) rfl (rOk.of rfl) ?_
  obtain ⟨m22, em22⟩ : ∃ z, z = al TSX6_init m21 := ⟨_, rfl⟩
  refine v_nM em22 ?_
  have hm22 : m22 0 0 = (o + 18) := by rw [em22]; exact al_nxo rfl hm21 ho (by decide) alX6_init rfl
  have obm22 : OB m22 o 4 := by rw [em22]; exact al_ob rfl obm21 (o_lt0 hm21 (by decide))
  have ar11m22 : AR m22 (o + 11) 114 6 := by rw [em22]; exact al_ar rfl ar11m21 (o_lt hm21 (by decide))
  have ob17m22 : OB m22 (o + 17) 6 := by rw [em22]; exact al_ob rfl ob17m21 (o_lt hm21 (by decide))
  obtain ⟨d21, ed21⟩ : ∃ z, z = wr (o + 17) WSX6_init d20 := ⟨_, rfl⟩
  refine v_nD ed21 ?_
  have f13d21 : d21 o 13 = (o + 11) := by rw [ed21, wr_lt rfl (o_l1 (by decide))]; exact f13d20
  refine v_aastO (t := 114) (c := 6) F dX4_init_110 ar11m22 (Nat.le_of_ble_eq_true rfl) rfl rfl rfl ob17m22 (Nat.le_of_ble_eq_true rfl) ⟨by decide, by decide⟩ (fun _ _ => trivial) ?_
  obtain ⟨d22, ed22⟩ : ∃ z, z = st d21 (o + 11) 4 (o + 17) := ⟨_, rfl⟩
  refine v_nD ed22 ?_
  have f13d22 : d22 o 13 = (o + 11) := by rw [ed22, st_na (o_ne (by decide))]; exact f13d21
  refine v_iincN F dX4_init_111 (Nat.le_of_ble_eq_true rfl) rfl (y := 5) (by decide) (L' := [mA o, mI 5]) rfl ?_
  refine v_goto F dX4_init_114 rfl ?_
  refine v_iload_n F dX4_init_92 rfl rfl ?_
  refine v_bipush F dX4_init_93 rfl ⟨by decide, by decide⟩ ?_
  refine v_icmp_ge F dX4_init_95 rfl (fun h => absurd h (show ¬ (6 : Int) ≤ 5 from by decide)) (fun _ => ?_)
  refine v_aload_n F dX4_init_98 rfl rfl ?_
  refine v_getA F fg_X4_43 dX4_init_99 obm22 rfl f13d22 ?_
  refine v_iload_n F dX4_init_102 rfl rfl ?_
  refine v_new (c := 6) (n := 8) F dX4_init_103 rfl (Nat.le_of_ble_eq_true rfl) rfl ok_X6 q564 q566 q291 in_X6 tyX6_ok (fun _ _ => trivial) (Nat.le_of_ble_eq_true rfl) (Nat.le_of_ble_eq_true rfl) hm22 ?_
  have hn18 : m22 0 0 = (o + 18) := hm22
  obtain ⟨m23, em23⟩ : ∃ z, z = aln m22 ((6 : Nat) + 1 : Int) 0 := ⟨_, rfl⟩
  refine v_nM em23 ?_
  have hm23 : m23 0 0 = (o + 19) := by rw [em23]; exact aln_nxo hm22 ho (by decide) rfl
  have obm23 : OB m23 o 4 := by rw [em23]; exact aln_ob obm22 (o_lt0 hm22 (by decide))
  have ar11m23 : AR m23 (o + 11) 114 6 := by rw [em23]; exact aln_ar ar11m22 (o_lt hm22 (by decide))
  have ob18m23 : OB m23 (o + 18) 6 := ⟨o_pos ho (by decide), by rw [em23, ← hn18]; exact aln_1⟩
  refine v_dup_A F dX4_init_106 ?_
  refine v_callI F dX4_init_107 cn_X4_50 rfl ob18m23.1 (vm_X6_init (o := (o + 18)) (hm23.trans (o_da rfl)) ob18m23) rfl (rOk.of rfl) ?_
  obtain ⟨m24, em24⟩ : ∃ z, z = al TSX6_init m23 := ⟨_, rfl⟩
  refine v_nM em24 ?_
  have hm24 : m24 0 0 = (o + 19) := by rw [em24]; exact al_nxo rfl hm23 ho (by decide) alX6_init rfl
  have obm24 : OB m24 o 4 := by rw [em24]; exact al_ob rfl obm23 (o_lt0 hm23 (by decide))
  have ar11m24 : AR m24 (o + 11) 114 6 := by rw [em24]; exact al_ar rfl ar11m23 (o_lt hm23 (by decide))
  have ob18m24 : OB m24 (o + 18) 6 := by rw [em24]; exact al_ob rfl ob18m23 (o_lt hm23 (by decide))
  obtain ⟨d23, ed23⟩ : ∃ z, z = wr (o + 18) WSX6_init d22 := ⟨_, rfl⟩
  refine v_nD ed23 ?_
  have f13d23 : d23 o 13 = (o + 11) := by rw [ed23, wr_lt rfl (o_l1 (by decide))]; exact f13d22
  refine v_aastO (t := 114) (c := 6) F dX4_init_110 ar11m24 (Nat.le_of_ble_eq_true rfl) rfl rfl rfl ob18m24 (Nat.le_of_ble_eq_true rfl) ⟨by decide, by decide⟩ (fun _ _ => trivial) ?_
  obtain ⟨d24, ed24⟩ : ∃ z, z = st d23 (o + 11) 5 (o + 18) := ⟨_, rfl⟩
  refine v_nD ed24 ?_
  have f13d24 : d24 o 13 = (o + 11) := by rw [ed24, st_na (o_ne (by decide))]; exact f13d23
  refine v_iincN F dX4_init_111 (Nat.le_of_ble_eq_true rfl) rfl (y := 6) (by decide) (L' := [mA o, mI 6]) rfl ?_
  refine v_goto F dX4_init_114 rfl ?_
  refine v_iload_n F dX4_init_92 rfl rfl ?_
  refine v_bipush F dX4_init_93 rfl ⟨by decide, by decide⟩ ?_
  refine v_icmp_ge F dX4_init_95 rfl (fun _ => ?_) (fun h => absurd (show (6 : Int) ≤ 6 from by decide) h)
  have ed : d24 = wr o WSX4_init d := by rw [wf_X4_init]; rw [ed24, ed23, ed22, ed21, ed20, ed19, ed18, ed17, ed16, ed15, ed14, ed13, ed12, ed11, ed10, ed9, ed8, ed7, ed6, ed5, ed4, ed3, ed2, ed1]
  have em : m24 = al TSX4_init m := by rw [tf_X4_init]; rw [em24, em23, em22, em21, em20, em19, em18, em17, em16, em15, em14, em13, em12, em11, em10, em9, em8, em7, em6, em5, em4, em3, em2, em1]
  rw [← ed, ← em]
  exact v_vret F dX4_init_117
