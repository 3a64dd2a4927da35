set_option maxRecDepth 100000
set_option maxHeartbeats 4000000
theorem bAnd_63 {x : Int} (h : in32 x) : 0 ≤ bAnd x 63 ∧ bAnd x 63 < 64 := by
  unfold bAnd
  rw [show Int32.ofInt 63 = (63 : Int32) from rfl, pk_and (Int32.ofInt x) (m := 63) 6 (by decide)]
  have hlt : (Int32.ofInt x).toBitVec.toNat % 2 ^ 6 < 64 := Nat.mod_lt _ (by decide)
  generalize (Int32.ofInt x).toBitVec.toNat % 2 ^ 6 = k at hlt
  show 0 ≤ (Int32.ofNat k).toInt ∧ (Int32.ofNat k).toInt < 64
  rw [← Int32.ofInt_eq_ofNat, i32_to (by unfold in32; omega)]
  omega
/-- every call, at every state that the word I allows: both answer, and alike -/
def Sim (w : Wd) (I : Nat → Dt → Dt → Prop) : Prop := ∀ (n : Nat) (d m : Dt) (c : Nat) (s1 s2 s3 s4 s5 : Int), n < 64 → VT w d m → WF d m → PB m 1 0 → PB m 1545 11 → I n d m → in32 s1 → in32 s2 → in32 s3 → in32 s4 → in32 s5 → c < 64 →
  ∃ d1 m1 r, opX c d m s1 s2 s3 s4 s5 = some (d1, m1, r) ∧ PB m1 1 0 ∧ PB m1 1545 11 ∧ (VT w d1 m1 → WF d1 m1 → ∃ d2, opM c d1 s1 s2 s3 s4 s5 = some (d2, r) ∧ (VT w d2 m1 → WF d2 m1 → I (n + 1) d2 m1))
theorem op_out {c : Nat} (h : 58 ≤ c) {d m : Dt} {s1 s2 s3 s4 s5 : Int} : opX c d m s1 s2 s3 s4 s5 = some (d, m, 0) ∧ opM c d s1 s2 s3 s4 s5 = some (d, 0) := by
  obtain ⟨k, rfl⟩ : ∃ k, c = k + 58 := ⟨c - 58, by omega⟩
  exact ⟨rfl, rfl⟩
theorem law_loop {w : Wd} {l : Launch} {G : Cx} {Q : State → Prop} {n : Int} {f : Int → Int} {I : Nat → Dt → Dt → Prop} {C0 S0 : Nat} (F : Fx w G code R_law 4 ret room_1) (hT : va_T .int (w.2.1 (-1)) n.toNat (fun j => .int (Int32.ofInt (f j))) (fun q => w.1.size ≤ q) G.2.2.2.1 w.1) (hf : ∀ j, in32 (f j)) (hn : 0 ≤ n ∧ n ≤ 384) (hC : C0 + 7 * 65 ≤ room_1.cells) (hS0 : S0 + 82 * 65 ≤ room_1.slots) (hS : Sim w I)
    (hend : ∀ (d m : Dt) (kc ks : Nat) (i : Int), kc ≤ room_1.cells → ks ≤ room_1.slots → V w l WF G Q d m kc ks 2212 [mA (-1), mA 1, mA 1545, mI i] []) :
    ∀ (k j : Nat) (d m : Dt), j + k = 64 → PB m 1 0 → PB m 1545 11 → I j d m → V w l WF G Q d m (C0 + 7 * j) (S0 + 82 * j) 18 [mA (-1), mA 1, mA 1545, mI (6 * (j : Int))] [] := by
  intro k
  induction k with
  | zero =>
    intro j d m hj hp hq hI
    refine v_iload_n F dL_law_18 rfl rfl ?_
    refine v_aload_n F dL_law_19 rfl rfl ?_
    refine v_xlen (n := n) F dL_law_20 (by decide) hT (by omega) ?_
    refine v_bipush F dL_law_21 rfl ⟨by decide, by decide⟩ ?_
    refine v_isub F dL_law_23 ?_
    refine v_nI (x := n - 6) (w32_id (by unfold in32; omega)).symm ?_
    exact v_icmp_gt F dL_law_24 rfl (fun _ => hend d m _ _ _ (Nat.le_trans (by omega) hC) (Nat.le_trans (by omega) hS0)) (fun h => absurd (show n - 6 < 6 * (j : Int) by omega) h)
  | succ k ih =>
    intro j d m hj hp hq hI
    refine v_iload_n F dL_law_18 rfl rfl ?_
    refine v_aload_n F dL_law_19 rfl rfl ?_
    refine v_xlen (n := n) F dL_law_20 (by decide) hT (by omega) ?_
    refine v_bipush F dL_law_21 rfl ⟨by decide, by decide⟩ ?_
    refine v_isub F dL_law_23 ?_
    refine v_nI (x := n - 6) (w32_id (by unfold in32; omega)).symm ?_
    refine v_icmp_gt F dL_law_24 rfl (fun _ => hend d m _ _ _ (Nat.le_trans (by omega) hC) (Nat.le_trans (by omega) hS0)) (fun hlt => ?_)
    have hi : 0 ≤ 6 * (j : Int) ∧ 6 * (j : Int) + 6 ≤ n ∧ n ≤ 384 := by omega
    refine v_fact fun hv hX _ _ => ?_
    have kk : ∀ d2 m1, PB m1 1 0 → PB m1 1545 11 → I (j + 1) d2 m1 → V w l WF G Q d2 m1 (C0 + 7 * j + 7) (S0 + 82 * j + 82) 2206 [mA (-1), mA 1, mA 1545, mI (6 * (j : Int))] [] := fun d2 m1 a1 a2 a3 => by
      refine v_iincN F dL_law_2206 (Nat.le_of_ble_eq_true rfl) rfl (y := 6 * ((j + 1 : Nat) : Int)) (by rw [w32_id (by unfold in32; omega)]; omega) (L' := [mA (-1), mA 1, mA 1545, mI (6 * ((j + 1 : Nat) : Int))]) rfl ?_
      refine v_goto F dL_law_2209 rfl ?_
      exact ih (j + 1) d2 m1 (by omega) a1 a2 a3
    refine v_aload_n F dL_law_27 rfl rfl ?_
    refine v_iload_n F dL_law_28 rfl rfl ?_
    refine v_xald (n := n) (f := f) F dL_law_29 (by decide) hT (by omega) (hf _) ?_
    refine v_bipush F dL_law_30 rfl ⟨by decide, by decide⟩ ?_
    refine v_iand F dL_law_32 ?_
    have hx := bAnd_63 (hf (6 * (j : Int)))
    obtain ⟨x, ex⟩ : ∃ x, x = bAnd (f (6 * (j : Int))) 63 := ⟨_, rfl⟩
    rw [← ex] at hx
    refine v_nI ex ?_
    have sim : ∀ c : Nat, x = (c : Int) → _ := fun c hc => hS j d m c (f (6 * (j : Int) + 1)) (f (6 * (j : Int) + 2)) (f (6 * (j : Int) + 3)) (f (6 * (j : Int) + 4)) (f (6 * (j : Int) + 5)) (by omega) hv hX hp hq hI (hf _) (hf _) (hf _) (hf _) (hf _) (by omega)
    have r1 : C0 + 7 * j + 7 ≤ room_1.cells := Nat.le_trans (by omega) hC
    have r2 : S0 + 82 * j + 82 ≤ room_1.slots := Nat.le_trans (by omega) hS0
    by_cases h0 : x = 0
    · exact v_tableIn F dL_law_33 h0 (by decide) (by decide) rfl rfl (lc_0 (I := I (j + 1)) F hT hf hi hp hq r1 r2 (sim 0 h0) kk)
    by_cases h1 : x = 1
    · exact v_tableIn F dL_law_33 h1 (by decide) (by decide) rfl rfl (lc_1 (I := I (j + 1)) F hT hf hi hp hq r1 r2 (sim 1 h1) kk)
    by_cases h2 : x = 2
    · exact v_tableIn F dL_law_33 h2 (by decide) (by decide) rfl rfl (lc_2 (I := I (j + 1)) F hT hf hi hp hq r1 r2 (sim 2 h2) kk)
    by_cases h3 : x = 3
    · exact v_tableIn F dL_law_33 h3 (by decide) (by decide) rfl rfl (lc_3 (I := I (j + 1)) F hT hf hi hp hq r1 r2 (sim 3 h3) kk)
    by_cases h4 : x = 4
    · exact v_tableIn F dL_law_33 h4 (by decide) (by decide) rfl rfl (lc_4 (I := I (j + 1)) F hT hf hi hp hq r1 r2 (sim 4 h4) kk)
    by_cases h5 : x = 5
    · exact v_tableIn F dL_law_33 h5 (by decide) (by decide) rfl rfl (lc_5 (I := I (j + 1)) F hT hf hi hp hq r1 r2 (sim 5 h5) kk)
    by_cases h6 : x = 6
    · exact v_tableIn F dL_law_33 h6 (by decide) (by decide) rfl rfl (lc_6 (I := I (j + 1)) F hT hf hi hp hq r1 r2 (sim 6 h6) kk)
    by_cases h7 : x = 7
    · exact v_tableIn F dL_law_33 h7 (by decide) (by decide) rfl rfl (lc_7 (I := I (j + 1)) F hT hf hi hp hq r1 r2 (sim 7 h7) kk)
    by_cases h8 : x = 8
    · exact v_tableIn F dL_law_33 h8 (by decide) (by decide) rfl rfl (lc_8 (I := I (j + 1)) F hT hf hi hp hq r1 r2 (sim 8 h8) kk)
    by_cases h9 : x = 9
    · exact v_tableIn F dL_law_33 h9 (by decide) (by decide) rfl rfl (lc_9 (I := I (j + 1)) F hT hf hi hp hq r1 r2 (sim 9 h9) kk)
    by_cases h10 : x = 10
    · exact v_tableIn F dL_law_33 h10 (by decide) (by decide) rfl rfl (lc_10 (I := I (j + 1)) F hT hf hi hp hq r1 r2 (sim 10 h10) kk)
    by_cases h11 : x = 11
    · exact v_tableIn F dL_law_33 h11 (by decide) (by decide) rfl rfl (lc_11 (I := I (j + 1)) F hT hf hi hp hq r1 r2 (sim 11 h11) kk)
    by_cases h12 : x = 12
    · exact v_tableIn F dL_law_33 h12 (by decide) (by decide) rfl rfl (lc_12 (I := I (j + 1)) F hT hf hi hp hq r1 r2 (sim 12 h12) kk)
    by_cases h13 : x = 13
    · exact v_tableIn F dL_law_33 h13 (by decide) (by decide) rfl rfl (lc_13 (I := I (j + 1)) F hT hf hi hp hq r1 r2 (sim 13 h13) kk)
    by_cases h14 : x = 14
    · exact v_tableIn F dL_law_33 h14 (by decide) (by decide) rfl rfl (lc_14 (I := I (j + 1)) F hT hf hi hp hq r1 r2 (sim 14 h14) kk)
    by_cases h15 : x = 15
    · exact v_tableIn F dL_law_33 h15 (by decide) (by decide) rfl rfl (lc_15 (I := I (j + 1)) F hT hf hi hp hq r1 r2 (sim 15 h15) kk)
    by_cases h16 : x = 16
    · exact v_tableIn F dL_law_33 h16 (by decide) (by decide) rfl rfl (lc_16 (I := I (j + 1)) F hT hf hi hp hq r1 r2 (sim 16 h16) kk)
    by_cases h17 : x = 17
    · exact v_tableIn F dL_law_33 h17 (by decide) (by decide) rfl rfl (lc_17 (I := I (j + 1)) F hT hf hi hp hq r1 r2 (sim 17 h17) kk)
    by_cases h18 : x = 18
    · exact v_tableIn F dL_law_33 h18 (by decide) (by decide) rfl rfl (lc_18 (I := I (j + 1)) F hT hf hi hp hq r1 r2 (sim 18 h18) kk)
    by_cases h19 : x = 19
    · exact v_tableIn F dL_law_33 h19 (by decide) (by decide) rfl rfl (lc_19 (I := I (j + 1)) F hT hf hi hp hq r1 r2 (sim 19 h19) kk)
    by_cases h20 : x = 20
    · exact v_tableIn F dL_law_33 h20 (by decide) (by decide) rfl rfl (lc_20 (I := I (j + 1)) F hT hf hi hp hq r1 r2 (sim 20 h20) kk)
    by_cases h21 : x = 21
    · exact v_tableIn F dL_law_33 h21 (by decide) (by decide) rfl rfl (lc_21 (I := I (j + 1)) F hT hf hi hp hq r1 r2 (sim 21 h21) kk)
    by_cases h22 : x = 22
    · exact v_tableIn F dL_law_33 h22 (by decide) (by decide) rfl rfl (lc_22 (I := I (j + 1)) F hT hf hi hp hq r1 r2 (sim 22 h22) kk)
    by_cases h23 : x = 23
    · exact v_tableIn F dL_law_33 h23 (by decide) (by decide) rfl rfl (lc_23 (I := I (j + 1)) F hT hf hi hp hq r1 r2 (sim 23 h23) kk)
    by_cases h24 : x = 24
    · exact v_tableIn F dL_law_33 h24 (by decide) (by decide) rfl rfl (lc_24 (I := I (j + 1)) F hT hf hi hp hq r1 r2 (sim 24 h24) kk)
    by_cases h25 : x = 25
    · exact v_tableIn F dL_law_33 h25 (by decide) (by decide) rfl rfl (lc_25 (I := I (j + 1)) F hT hf hi hp hq r1 r2 (sim 25 h25) kk)
    by_cases h26 : x = 26
    · exact v_tableIn F dL_law_33 h26 (by decide) (by decide) rfl rfl (lc_26 (I := I (j + 1)) F hT hf hi hp hq r1 r2 (sim 26 h26) kk)
    by_cases h27 : x = 27
    · exact v_tableIn F dL_law_33 h27 (by decide) (by decide) rfl rfl (lc_27 (I := I (j + 1)) F hT hf hi hp hq r1 r2 (sim 27 h27) kk)
    by_cases h28 : x = 28
    · exact v_tableIn F dL_law_33 h28 (by decide) (by decide) rfl rfl (lc_28 (I := I (j + 1)) F hT hf hi hp hq r1 r2 (sim 28 h28) kk)
    by_cases h29 : x = 29
    · exact v_tableIn F dL_law_33 h29 (by decide) (by decide) rfl rfl (lc_29 (I := I (j + 1)) F hT hf hi hp hq r1 r2 (sim 29 h29) kk)
    by_cases h30 : x = 30
    · exact v_tableIn F dL_law_33 h30 (by decide) (by decide) rfl rfl (lc_30 (I := I (j + 1)) F hT hf hi hp hq r1 r2 (sim 30 h30) kk)
    by_cases h31 : x = 31
    · exact v_tableIn F dL_law_33 h31 (by decide) (by decide) rfl rfl (lc_31 (I := I (j + 1)) F hT hf hi hp hq r1 r2 (sim 31 h31) kk)
    by_cases h32 : x = 32
    · exact v_tableIn F dL_law_33 h32 (by decide) (by decide) rfl rfl (lc_32 (I := I (j + 1)) F hT hf hi hp hq r1 r2 (sim 32 h32) kk)
    by_cases h33 : x = 33
    · exact v_tableIn F dL_law_33 h33 (by decide) (by decide) rfl rfl (lc_33 (I := I (j + 1)) F hT hf hi hp hq r1 r2 (sim 33 h33) kk)
    by_cases h34 : x = 34
    · exact v_tableIn F dL_law_33 h34 (by decide) (by decide) rfl rfl (lc_34 (I := I (j + 1)) F hT hf hi hp hq r1 r2 (sim 34 h34) kk)
    by_cases h35 : x = 35
    · exact v_tableIn F dL_law_33 h35 (by decide) (by decide) rfl rfl (lc_35 (I := I (j + 1)) F hT hf hi hp hq r1 r2 (sim 35 h35) kk)
    by_cases h36 : x = 36
    · exact v_tableIn F dL_law_33 h36 (by decide) (by decide) rfl rfl (lc_36 (I := I (j + 1)) F hT hf hi hp hq r1 r2 (sim 36 h36) kk)
    by_cases h37 : x = 37
    · exact v_tableIn F dL_law_33 h37 (by decide) (by decide) rfl rfl (lc_37 (I := I (j + 1)) F hT hf hi hp hq r1 r2 (sim 37 h37) kk)
    by_cases h38 : x = 38
    · exact v_tableIn F dL_law_33 h38 (by decide) (by decide) rfl rfl (lc_38 (I := I (j + 1)) F hT hf hi hp hq r1 r2 (sim 38 h38) kk)
    by_cases h39 : x = 39
    · exact v_tableIn F dL_law_33 h39 (by decide) (by decide) rfl rfl (lc_39 (I := I (j + 1)) F hT hf hi hp hq r1 r2 (sim 39 h39) kk)
    by_cases h40 : x = 40
    · exact v_tableIn F dL_law_33 h40 (by decide) (by decide) rfl rfl (lc_40 (I := I (j + 1)) F hT hf hi hp hq r1 r2 (sim 40 h40) kk)
    by_cases h41 : x = 41
    · exact v_tableIn F dL_law_33 h41 (by decide) (by decide) rfl rfl (lc_41 (I := I (j + 1)) F hT hf hi hp hq r1 r2 (sim 41 h41) kk)
    by_cases h42 : x = 42
    · exact v_tableIn F dL_law_33 h42 (by decide) (by decide) rfl rfl (lc_42 (I := I (j + 1)) F hT hf hi hp hq r1 r2 (sim 42 h42) kk)
    by_cases h43 : x = 43
    · exact v_tableIn F dL_law_33 h43 (by decide) (by decide) rfl rfl (lc_43 (I := I (j + 1)) F hT hf hi hp hq r1 r2 (sim 43 h43) kk)
    by_cases h44 : x = 44
    · exact v_tableIn F dL_law_33 h44 (by decide) (by decide) rfl rfl (lc_44 (I := I (j + 1)) F hT hf hi hp hq r1 r2 (sim 44 h44) kk)
    by_cases h45 : x = 45
    · exact v_tableIn F dL_law_33 h45 (by decide) (by decide) rfl rfl (lc_45 (I := I (j + 1)) F hT hf hi hp hq r1 r2 (sim 45 h45) kk)
    by_cases h46 : x = 46
    · exact v_tableIn F dL_law_33 h46 (by decide) (by decide) rfl rfl (lc_46 (I := I (j + 1)) F hT hf hi hp hq r1 r2 (sim 46 h46) kk)
    by_cases h47 : x = 47
    · exact v_tableIn F dL_law_33 h47 (by decide) (by decide) rfl rfl (lc_47 (I := I (j + 1)) F hT hf hi hp hq r1 r2 (sim 47 h47) kk)
    by_cases h48 : x = 48
    · exact v_tableIn F dL_law_33 h48 (by decide) (by decide) rfl rfl (lc_48 (I := I (j + 1)) F hT hf hi hp hq r1 r2 (sim 48 h48) kk)
    by_cases h49 : x = 49
    · exact v_tableIn F dL_law_33 h49 (by decide) (by decide) rfl rfl (lc_49 (I := I (j + 1)) F hT hf hi hp hq r1 r2 (sim 49 h49) kk)
    by_cases h50 : x = 50
    · exact v_tableIn F dL_law_33 h50 (by decide) (by decide) rfl rfl (lc_50 (I := I (j + 1)) F hT hf hi hp hq r1 r2 (sim 50 h50) kk)
    by_cases h51 : x = 51
    · exact v_tableIn F dL_law_33 h51 (by decide) (by decide) rfl rfl (lc_51 (I := I (j + 1)) F hT hf hi hp hq r1 r2 (sim 51 h51) kk)
    by_cases h52 : x = 52
    · exact v_tableIn F dL_law_33 h52 (by decide) (by decide) rfl rfl (lc_52 (I := I (j + 1)) F hT hf hi hp hq r1 r2 (sim 52 h52) kk)
    by_cases h53 : x = 53
    · exact v_tableIn F dL_law_33 h53 (by decide) (by decide) rfl rfl (lc_53 (I := I (j + 1)) F hT hf hi hp hq r1 r2 (sim 53 h53) kk)
    by_cases h54 : x = 54
    · exact v_tableIn F dL_law_33 h54 (by decide) (by decide) rfl rfl (lc_54 (I := I (j + 1)) F hT hf hi hp hq r1 r2 (sim 54 h54) kk)
    by_cases h55 : x = 55
    · exact v_tableIn F dL_law_33 h55 (by decide) (by decide) rfl rfl (lc_55 (I := I (j + 1)) F hT hf hi hp hq r1 r2 (sim 55 h55) kk)
    by_cases h56 : x = 56
    · exact v_tableIn F dL_law_33 h56 (by decide) (by decide) rfl rfl (lc_56 (I := I (j + 1)) F hT hf hi hp hq r1 r2 (sim 56 h56) kk)
    by_cases h57 : x = 57
    · exact v_tableIn F dL_law_33 h57 (by decide) (by decide) rfl rfl (lc_57 (I := I (j + 1)) F hT hf hi hp hq r1 r2 (sim 57 h57) kk)
    refine v_tableOut F dL_law_33 (by omega) rfl ?_
    obtain ⟨d1, m1, r, e1, p1, p2, e2⟩ := sim x.toNat (by omega)
    obtain ⟨o1, o2⟩ := op_out (c := x.toNat) (by omega) (d := d) (m := m) (s1 := f (6 * (j : Int) + 1)) (s2 := f (6 * (j : Int) + 2)) (s3 := f (6 * (j : Int) + 3)) (s4 := f (6 * (j : Int) + 4)) (s5 := f (6 * (j : Int) + 5))
    cases o1.symm.trans e1
    obtain ⟨d2, e3, e4⟩ := e2 hv hX
    cases o2.symm.trans e3
    exact v_widen (by omega) (by omega) (kk d m p1 p2 (e4 hv hX))
