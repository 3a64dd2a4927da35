/-! LEVEL 3: a contest of a law -/
set_option maxRecDepth 100000
set_option maxHeartbeats 4000000
section KON2
variable {t : Int → Int} {n : Int} {N : Nat} {L p r A : Int} {a b : Dt} {i : Nat} {x y x' y' : Dt} {j j' : Nat}
/-- M's row is emptied -/
theorem zero_M {y : Dt} {r : Int} (hr : 0 ≤ r ∧ r ≤ 40) : ∃ y0, (∀ u v, ¬ (u = 1577 ∧ r ≤ v ∧ v ≤ r + 7) → y0 u v = y u v) ∧ (∀ q, 0 ≤ q → q ≤ 7 → y0 1577 (r + q) = 0) ∧ fX11_takeContest_19 y r 0 = b2 (fX11_takeWord y0 (-28)) fun d4 x6 => if x6 = 0 then some (d4, 0) else b2 (fX11_takeWithin d4 0 (w32 (d4 1545 3 - 1))) fun d8 x10 => if x10 = 0 then some (d8, 0) else lv (w32 (r + 0)) fun x12 => ck (0 ≤ x12 ∧ x12 < 96) <| sd d8 1577 x12 (d8 1545 32) fun d14 => b2 (fX11_takeWord d14 (-30)) fun d15 x17 => if x17 = 0 then some (d15, 0) else b2 (fX11_takeWithin d15 1 9) fun d19 x21 => if x21 = 0 then some (d19, 0) else lv (w32 (r + 1)) fun x23 => ck (0 ≤ x23 ∧ x23 < 96) <| sd d19 1577 x23 (d19 1545 32) fun d25 => b2 (fX11_takeWord d25 (-32)) fun d26 x28 => if x28 = 0 then some (d26, 0) else fX11_takeContest_129 d26 r (-1) 0 := by
  have key : ∀ m : Nat, ∀ (k : Int) (y1 : Dt), m = (8 - k).toNat → 0 ≤ k → k ≤ 8 → (∀ u v, ¬ (u = 1577 ∧ r ≤ v ∧ v ≤ r + 7) → y1 u v = y u v) → (∀ q, 0 ≤ q → q < k → y1 1577 (r + q) = 0) → ∃ y0, (∀ u v, ¬ (u = 1577 ∧ r ≤ v ∧ v ≤ r + 7) → y0 u v = y u v) ∧ (∀ q, 0 ≤ q → q ≤ 7 → y0 1577 (r + q) = 0) ∧ fX11_takeContest_19 y1 r k = b2 (fX11_takeWord y0 (-28)) fun d4 x6 => if x6 = 0 then some (d4, 0) else b2 (fX11_takeWithin d4 0 (w32 (d4 1545 3 - 1))) fun d8 x10 => if x10 = 0 then some (d8, 0) else lv (w32 (r + 0)) fun x12 => ck (0 ≤ x12 ∧ x12 < 96) <| sd d8 1577 x12 (d8 1545 32) fun d14 => b2 (fX11_takeWord d14 (-30)) fun d15 x17 => if x17 = 0 then some (d15, 0) else b2 (fX11_takeWithin d15 1 9) fun d19 x21 => if x21 = 0 then some (d19, 0) else lv (w32 (r + 1)) fun x23 => ck (0 ≤ x23 ∧ x23 < 96) <| sd d19 1577 x23 (d19 1545 32) fun d25 => b2 (fX11_takeWord d25 (-32)) fun d26 x28 => if x28 = 0 then some (d26, 0) else fX11_takeContest_129 d26 r (-1) 0 := by
    intro m
    induction m with
    | zero =>
      intro k y1 hm k0 k1 h1 h2
      have : k = 8 := by omega
      subst this
      refine ⟨y1, h1, fun q q0 q1 => h2 q q0 (by omega), ?_⟩
      unfold fX11_takeContest_19
      rw [loop_kt]
      unfold fX11_takeContest_19f
      dsimp only
      rw [if_pos (by decide), kt_up]
    | succ m ih =>
      intro k y1 hm k0 k1 h1 h2
      obtain ⟨y0, g1, g2, g3⟩ := ih (k + 1) (st y1 1577 (r + k) 0) (by omega) (by omega) (by omega) (fun u v z => by rw [show st y1 1577 (r + k) 0 u v = y1 u v by unfold st; rw [if_neg (by omega)]]; exact h1 u v z) (fun q q0 q1 => by
        by_cases z : q = k
        · subst z; exact st_eq _ _ _ _
        · rw [st_nk (by omega)]; exact h2 q q0 (by omega))
      refine ⟨y0, g1, g2, ?_⟩
      rw [← g3]
      unfold fX11_takeContest_19
      rw [loop_kt]
      have : fX11_takeContest_19f r (y1, k) = some (.inl (st y1 1577 (r + k) 0, k + 1)) := by
        unfold fX11_takeContest_19f
        dsimp only
        rw [if_neg (by omega), w32_o (v := r + k) (by omega), lv_e, ck_pos (by omega), sd_e, lv_e, w32_o (by omega)]
      rw [this, kt_in]
  exact key 8 0 y (by omega) (by omega) (by omega) (fun _ _ _ => rfl) (fun q q0 q1 => by omega)
/-- what a contest leaves -/
def KQ (t : Int → Int) (n : Int) (N : Nat) (L p r A : Int) (a b : Dt) (i : Nat) (C : Int) (x y : Dt) : Prop := ∃ j, i < j ∧ KJ t n N L p r a b i x y j ∧ x L 14 = C + 1 ∧ y 1576 9 = C + 1 ∧ (x 10 9 = -1 → WY A x y p r)
theorem cp_contest {pl C : Int} (h : RL t n N a b i) (hL : 15 ≤ L) (h10 : a 10 10 = L) (hA : 0 ≤ A ∧ A ≤ 24) (hAA : a 3 1 = A ∧ b 1545 3 = A) (hC : a L 14 = C ∧ b 1576 9 = C ∧ 0 ≤ C ∧ C ≤ 5000) (h12 : a 10 12 = b 1545 49 ∧ (a 10 12 = 0 ∨ a 10 12 = 1)) (hp : p = L + 13 + (if C ≤ 5 then C else 5)) (hr : r = 8 * (if C ≤ 5 then C else 5)) : CP (fX2_contest_18 a pl 1) (fX11_takeContest b) (EL L a b) (fun _ x y => KQ t n N L p r A a b i C x y) := by
  have hc5 : 0 ≤ (if C ≤ 5 then C else 5) ∧ (if C ≤ 5 then C else 5) ≤ 5 := by split <;> omega
  unfold fX2_contest_18 fX11_takeContest
  rw [note_X, nt_1, bd_s]
  simp only [lv_e, h10, hC.1, hC.2.1, min_if]
  generalize (if C ≤ 5 then C else 5) = cc at *
  rw [ck_pos (by omega), ck_pos (by omega), ck_pos (by omega), ck_pos (by omega), sd_e, w32_o (v := C + 1) (by omega), w32_o (by omega), ← hr, ← hp]
  obtain ⟨y0, z1, z2, z3⟩ := zero_M (y := b) (r := r) (by omega)
  rw [z3]
  have ex0 : ∀ u v, ¬ (u = L ∧ v = 14) → st a L 14 (C + 1) u v = a u v := fun u v z => by unfold st; rw [if_neg z]
  have k0 : KJ t n N L p r a b i (st a L 14 (C + 1)) y0 i := ⟨h.cg2 (fun u w z => ex0 _ _ (by omega)) (fun u w z => z1 _ _ (by omega)), Nat.le_refl _, fun u w u1 u2 u3 u4 => ex0 _ _ u3, fun u w u1 u2 u3 => z1 _ _ u3, fun z => by rw [ex0 _ _ (by omega)]; exact ⟨z, Int.le_refl _⟩, by rw [ex0 _ _ (by omega), z1 _ _ (by omega)]; exact h12⟩
  have x014 : st a L 14 (C + 1) L 14 = C + 1 := st_eq _ _ _ _
  have x031 : st a L 14 (C + 1) 3 1 = A := by rw [ex0 _ _ (by omega)]; exact hAA.1
  have y09 : y0 1576 9 = C := by rw [z1 _ _ (by omega)]; exact hC.2.1
  have y03 : y0 1545 3 = A := by rw [z1 _ _ (by omega)]; exact hAA.2
  generalize st a L 14 (C + 1) = x0 at *
  refine (cp_word k0.1 (w := 9) (by decide) (by decide)).bx (fun x' y' e => ?_) (fun _ x1 y1 q1 => ?_)
  · rw [zer_if, wp_some]; exact ⟨rfl, k0.ef (by omega) (by omega) e⟩
  have k1 := k0.ss q1.1 (by omega) (by omega)
  rw [one_if, q1.1.2.1 1545 3 (by omega), y03, w32_o (v := A - 1) (by omega)]
  refine (cp_area k1.1 hA (by rw [q1.1.1 _ _ (by omega) (by omega)]; exact x031)).bx (fun x' y' e => ?_) (fun v1 x2 y2 q2 => ?_)
  · rw [zer_if, wp_some]; exact ⟨rfl, k1.ef (by omega) (by omega) e⟩
  rw [one_if, Int.add_zero, w32_o (v := r) (by omega), lv_e, ck_pos (by omega), sd_e, sd_e, q2.2.2.1]
  have k2 := (k1.ss q2.1 (by omega) (by omega)).sto (by omega) (q := 0) (v := v1) (q' := r) (v' := v1) (by omega) (by omega)
  refine (cp_word k2.1 (w := 10) (by decide) (by decide)).bx (fun x' y' e => ?_) (fun _ x3 y3 q3 => ?_)
  · rw [zer_if, wp_some]; exact ⟨rfl, k2.ef (by omega) (by omega) e⟩
  have k3 := k2.ss q3.1 (by omega) (by omega)
  rw [one_if]
  refine (cp_within k3.1).bx (fun x' y' e => ?_) (fun v2 x4 y4 q4 => ?_)
  · rw [zer_if, wp_some]; exact ⟨rfl, k3.ef (by omega) (by omega) e⟩
  rw [one_if, w32_o (v := r + 1) (by omega), lv_e, ck_pos (by omega), sd_e, sd_e, q4.2.2.1]
  have k4 := (k3.ss q4.1 (by omega) (by omega)).sto (by omega) (q := 1) (v := v2) (q' := r + 1) (v' := v2) (by omega) (by omega)
  refine (cp_word k4.1 (w := 11) (by decide) (by decide)).bx (fun x' y' e => ?_) (fun _ x5 y5 q5 => ?_)
  · rw [zer_if, wp_some]; exact ⟨rfl, k4.ef (by omega) (by omega) e⟩
  have k5 := k4.ss q5.1 (by omega) (by omega)
  rw [one_if]
  -- what is there by now
  have w5 : Wm x4 x5 := fun z => by
    have := q5.1.2.2.1
    unfold Wm at this
    rw [st_na (show (10 : Int) ≠ p by omega)] at this
    exact this z
  have w3 : Wm x2 x3 := fun z => by
    have := q3.1.2.2.1
    unfold Wm at this
    rw [st_na (show (10 : Int) ≠ p by omega)] at this
    exact this z
  have f50 : x5 p 0 = v1 ∧ y5 1577 r = v1 := by
    constructor
    · rw [q5.1.1 _ _ (by omega) (by omega), st_nk (by decide), q4.1.1 _ _ (by omega) (by omega), q3.1.1 _ _ (by omega) (by omega), st_eq]
    · rw [q5.1.2.1 _ _ (by omega), st_nk (by omega), q4.1.2.1 _ _ (by omega), q3.1.2.1 _ _ (by omega), st_eq]
  have f51 : x5 p 1 = v2 ∧ y5 1577 (r + 1) = v2 := by
    constructor
    · rw [q5.1.1 _ _ (by omega) (by omega), st_eq]
    · rw [q5.1.2.1 _ _ (by omega), st_eq]
  have f5o : ∀ u v, u ≠ 10 → u ≠ 11 → ¬ (u = p ∧ 0 ≤ v ∧ v ≤ 1) → x5 u v = x0 u v := fun u v n1 n2 n3 => by
    rw [q5.1.1 _ _ (by omega) n2, show st x4 p 1 v2 u v = x4 u v by unfold st; rw [if_neg (by omega)], q4.1.1 _ _ (by omega) n2, q3.1.1 _ _ (by omega) n2, show st x2 p 0 v1 u v = x2 u v by unfold st; rw [if_neg (by omega)], q2.1.1 _ _ (by omega) n2, q1.1.1 _ _ (by omega) n2]
  have g5o : ∀ u v, u ≠ 1545 → ¬ (u = 1577 ∧ r ≤ v ∧ v ≤ r + 1) → y5 u v = y0 u v := fun u v n1 n3 => by
    rw [q5.1.2.1 _ _ (by omega), show st y4 1577 (r + 1) v2 u v = y4 u v by unfold st; rw [if_neg (by omega)], q4.1.2.1 _ _ (by omega), q3.1.2.1 _ _ (by omega), show st y2 1577 r v1 u v = y2 u v by unfold st; rw [if_neg (by omega)], q2.1.2.1 _ _ (by omega), q1.1.2.1 _ _ (by omega)]
  have ok5 : x5 10 9 = -1 → (0 ≤ v1 ∧ v1 < A) ∧ 1 ≤ v2 ∧ v2 ≤ 9 := fun z => by
    have e4 : x4 10 9 = -1 := by
      rcases Int.decEq (x4 10 9) (-1) with s | s
      · exact absurd z (w5 s).1
      · exact s
    have e3 : x3 10 9 = -1 := by
      rcases Int.decEq (x3 10 9) (-1) with s | s
      · exact absurd e4 (q4.1.2.2.1 s).1
      · exact s
    have e2 : x2 10 9 = -1 := by
      rcases Int.decEq (x2 10 9) (-1) with s | s
      · exact absurd e3 (w3 s).1
      · exact s
    rcases q2.2.2.2.1 with s | s
    · rcases q4.2.2.2.1 with s' | s'
      · omega
      · exact absurd e4 s'.1
    · exact absurd e2 s.1
  -- the rule
  have hR5 := k5.1
  have hl : fX11_takeContest_129 y5 r (-1) 0 = if 31 ≤ wd t n (i + 1 + 1 + 1 + 1 + 1) ∧ wd t n (i + 1 + 1 + 1 + 1 + 1) < 31 + 15 then fX11_takeContest_165 (nxb y5) r (wd t n (i + 1 + 1 + 1 + 1 + 1) - 31) else fX11_takeContest_165 y5 r (-1) := by
    unfold fX11_takeContest_129
    exact mw_loop hR5.2.1 (f := fX11_takeContest_129f r) (R := fun d v => fX11_takeContest_165 d r v) (c := fun k => 14 < k) (fun k => by omega) (by decide) (by decide) (fun k k0 k1 => ruName k0 k1) (fun d v k => rfl)
  rw [hl, hR5.1.oneOf (by decide) (by decide)]
  generalize hi5 : i + 1 + 1 + 1 + 1 + 1 = i5 at *
  by_cases q : 31 ≤ wd t n i5 ∧ wd t n i5 ≤ 45
  · rw [if_pos q, if_pos (by omega)]
    show CP (bx (bd _ _) th _) _ _ _
    rw [bx_bd]
    refine CP.tk (hR5.take (hR5.lt_w (by omega) rfl)) fun x6 s6 => ?_
    rw [bx_s]
    have k6 := k5.ss s6 (by omega) (by omega)
    generalize hru : wd t n i5 - 31 = ru at *
    simp only [sd_e]
    unfold fX11_takeContest_165
    rw [if_pos (show (0 : Int) ≤ ru by omega), w32_o (v := r + 2) (by omega), lv_e, ck_pos (by omega), sd_e, sd_e]
    generalize hx7 : st (st (st (st (st (st x6 p 2 ru) p 3 0) p 4 0) p 5 1) p 6 0) p 7 0 = x7
    generalize hy7 : st (st (nxb y5) 1577 (r + 2) ru) 1576 9 (w32 (st (nxb y5) 1577 (r + 2) ru 1576 9 + 1)) = y7
    have y7a : st (nxb y5) 1577 (r + 2) ru 1576 9 = C := by rw [st_na (by decide), nx_at (by decide), g5o _ _ (by decide) (by omega)]; exact y09
    rw [y7a, w32_o (by omega)] at hy7
    have ex7 : ∀ u v, ¬ (u = p ∧ 2 ≤ v ∧ v ≤ 7) → x7 u v = x6 u v := fun u v z => by
      rw [← hx7]
      unfold st
      rw [if_neg (by omega), if_neg (by omega), if_neg (by omega), if_neg (by omega), if_neg (by omega), if_neg (by omega)]
    have x72 : x7 p 2 = ru := by rw [← hx7]; simp (disch := omega) only [w32_o, w64_o, w8_o, st_eq, st_na, st_nk, ck_pos, wp_sd, wp_lv, wp_lm, wp_some, wp_b1, wp_bd, wp_b2, wp_b3, wp_up, wp_map]
    have x73 : x7 p 3 = 0 := by rw [← hx7]; simp (disch := omega) only [w32_o, w64_o, w8_o, st_eq, st_na, st_nk, ck_pos, wp_sd, wp_lv, wp_lm, wp_some, wp_b1, wp_bd, wp_b2, wp_b3, wp_up, wp_map]
    have x74 : x7 p 4 = 0 := by rw [← hx7]; simp (disch := omega) only [w32_o, w64_o, w8_o, st_eq, st_na, st_nk, ck_pos, wp_sd, wp_lv, wp_lm, wp_some, wp_b1, wp_bd, wp_b2, wp_b3, wp_up, wp_map]
    have x75 : x7 p 5 = 1 := by rw [← hx7]; simp (disch := omega) only [w32_o, w64_o, w8_o, st_eq, st_na, st_nk, ck_pos, wp_sd, wp_lv, wp_lm, wp_some, wp_b1, wp_bd, wp_b2, wp_b3, wp_up, wp_map]
    have x76 : x7 p 6 = 0 := by rw [← hx7]; simp (disch := omega) only [w32_o, w64_o, w8_o, st_eq, st_na, st_nk, ck_pos, wp_sd, wp_lv, wp_lm, wp_some, wp_b1, wp_bd, wp_b2, wp_b3, wp_up, wp_map]
    have x77 : x7 p 7 = 0 := by rw [← hx7]; simp (disch := omega) only [w32_o, w64_o, w8_o, st_eq, st_na, st_nk, ck_pos, wp_sd, wp_lv, wp_lm, wp_some, wp_b1, wp_bd, wp_b2, wp_b3, wp_up, wp_map]
    have ey7 : ∀ u v, ¬ (u = 1577 ∧ v = r + 2) → ¬ (u = 1576 ∧ v = 9) → y7 u v = nxb y5 u v := fun u v z z' => by
      rw [← hy7]
      unfold st
      rw [if_neg (by omega), if_neg (by omega)]
    have y72 : y7 1577 (r + 2) = ru := by rw [← hy7]; simp (disch := omega) only [w32_o, w64_o, w8_o, st_eq, st_na, st_nk, ck_pos, wp_sd, wp_lv, wp_lm, wp_some, wp_b1, wp_bd, wp_b2, wp_b3, wp_up, wp_map]
    have y79 : y7 1576 9 = C + 1 := by rw [← hy7]; simp (disch := omega) only [w32_o, w64_o, w8_o, st_eq, st_na, st_nk, ck_pos, wp_sd, wp_lv, wp_lm, wp_some, wp_b1, wp_bd, wp_b2, wp_b3, wp_up, wp_map]
    have k7 : KJ t n N L p r a b i x7 y7 (i5 + 1) := by
      obtain ⟨g1, g2, g3, g4, g5, g6⟩ := k6
      exact ⟨g1.cg2 (fun u w z => ex7 _ _ (by omega)) (fun u w z => ey7 _ _ (by omega) (by omega)), g2, fun u w u1 u2 u3 u4 => by rw [ex7 _ _ (by omega)]; exact g3 u w u1 u2 u3 u4, fun u w u1 u2 u3 => by rw [ey7 _ _ (by omega) (by omega)]; exact g4 u w u1 u2 u3, fun z => by rw [ex7 _ _ (by omega)]; exact g5 z, by rw [ex7 _ _ (by omega), ey7 _ _ (by omega) (by omega)]; exact g6⟩
    clear hx7 hy7
    have x7o : ∀ u v, u ≠ 10 → u ≠ 11 → ¬ (u = p ∧ 0 ≤ v ∧ v ≤ 7) → x7 u v = x0 u v := fun u v n1 n2 n3 => by rw [ex7 _ _ (by omega), s6.1 _ _ (by omega) n2, f5o _ _ n1 n2 (by omega)]
    have y7z : ∀ q, 3 ≤ q → q ≤ 7 → y7 1577 (r + q) = 0 := fun q q0 q1 => by rw [ey7 _ _ (by omega) (by omega), nx_at (by omega), g5o _ _ (by decide) (by omega)]; exact z2 q (by omega) q1
    have x701 : (x7 p 0 = v1 ∧ y7 1577 r = v1) ∧ x7 p 1 = v2 ∧ y7 1577 (r + 1) = v2 := by
      rw [ex7 _ _ (by omega), ex7 _ _ (by omega), s6.1 _ _ (by omega) (by omega), s6.1 _ _ (by omega) (by omega), ey7 _ _ (by omega) (by omega), ey7 _ _ (by omega) (by omega), nx_at (by omega), nx_at (by omega)]
      exact ⟨f50, f51⟩
    have ok7 : x7 10 9 = -1 → (0 ≤ v1 ∧ v1 < A) ∧ 1 ≤ v2 ∧ v2 ≤ 9 := fun z => by
      rw [ex7 _ _ (by omega)] at z
      refine ok5 ?_
      rcases Int.decEq (x5 10 9) (-1) with s | s
      · exact absurd z (s6.2.2.1 s).1
      · exact s
    have x714 : x7 L 14 = C + 1 := by rw [x7o _ _ (by omega) (by omega) (by omega)]; exact x014
    -- the end for all but lists
    have fin : ∀ (x8 y8 : Dt) (j8 : Nat) (op : Int), i5 < j8 → KJ t n N L p r a b i x8 y8 j8 → Wm x7 x8 → (∀ q, q ≠ 3 → x8 p q = x7 p q) → (∀ q, q ≠ 3 → y8 1577 (r + q) = y7 1577 (r + q)) → x8 L 14 = C + 1 → y8 1576 9 = C + 1 → x8 p 3 = op → y8 1577 (r + 3) = op → 0 ≤ op ∧ op ≤ 1 → KQ t n N L p r A a b i C x8 y8 := fun x8 y8 j8 op hj k8 wm e1 e2 e3 e4 e5 e6 hop => by
      refine ⟨j8, by omega, k8, e3, e4, fun z => ?_⟩
      have z7 : x7 10 9 = -1 := by
        rcases Int.decEq (x7 10 9) (-1) with s | s
        · exact absurd z (wm s).1
        · exact s
      have := ok7 z7
      unfold WY
      have er : y8 1577 r = v1 := by have := e2 0 (by decide); rw [Int.add_zero] at this; rw [this]; exact x701.1.2
      rw [e1 0 (by decide), e1 1 (by decide), e1 2 (by decide), e5, e6, e1 4 (by decide), e1 5 (by decide), e1 6 (by decide), e1 7 (by decide), er, e2 1 (by decide), e2 2 (by decide), e2 4 (by decide), e2 5 (by decide), e2 6 (by decide), e2 7 (by decide), x701.1.1, x701.2.1, x701.2.2, x72, y72, x74, x75, x76, x77, y7z 4 (by decide) (by decide), y7z 5 (by decide) (by decide), y7z 6 (by decide) (by decide), y7z 7 (by decide) (by decide)]
      omega
    rw [x72]
    unfold fX11_takeContest_250
    by_cases q14 : ru = 14
    · rw [if_neg (by omega), if_neg (by omega), if_pos q14, if_neg (by omega), if_neg (by omega), if_pos q14]
      refine (cp_lists k7 (by omega) (by omega) ⟨x74, x75, x76, x77⟩ (fun q q0 q1 => y7z q (by omega) q1)).bx (fun x' y' e => ?_) (fun _ x8 y8 q8 => ?_)
      · rw [zer_if, wp_some]; exact ⟨rfl, e⟩
      · rw [one_if]
        obtain ⟨j8, l1, l2, l3, l4, l5, l6, l7, l8, l9, l10⟩ := q8
        refine CP.ret ⟨j8, by omega, l2, by rw [l9]; exact x714, by rw [l10]; exact y79, fun z => ?_⟩
        have z7 : x7 10 9 = -1 := by
          rcases Int.decEq (x7 10 9) (-1) with s | s
          · exact absurd z (l3 s).1
          · exact s
        have := ok7 z7
        have g0 := l4 0 (by decide) (by decide)
        have g1 := l4 1 (by decide) (by decide)
        have g2 := l4 2 (by decide) (by decide)
        rw [Int.add_zero] at g0
        refine ⟨?_, ?_, ?_, ?_, l6 z, l7, l8.1, l8.2, fun _ => ?_⟩
        · rw [g0.1, g0.2, x701.1.1, x701.1.2]; omega
        · rw [g1.1, g1.2, x701.2.1, x701.2.2]; omega
        · rw [g2.1, g2.2, x72, y72]; omega
        · rw [g2.1, x72]; exact ⟨l5.1, l5.2.1, l5.2.2, fun w => absurd q14 w⟩
        · rw [g2.1, x72]; exact q14
    · by_cases q12 : ru = 12 ∨ ru = 13
      · have eX : (if ru = 12 then fX2_contest_147 x7 pl p else if ru = 13 then fX2_contest_147 x7 pl p else if ru = 14 then bx (fX2_lists x7 p) (fun d60 => some (d60, none)) fun d60 x62 => some (d60, some 0) else some (x7, some 0)) = fX2_contest_147 x7 pl p := by
          rcases q12 with s | s
          · rw [if_pos s]
          · rw [if_neg (by omega), if_pos s]
        have eM : (if ru = 12 then fX11_takeContest_206 y7 r ru else if ru = 13 then fX11_takeContest_206 y7 r ru else if ru = 14 then b2 (fX11_takeLists y7 r) fun d45 x47 => if x47 = 0 then some (d45, 0) else some (d45, 1) else some (y7, 1)) = fX11_takeContest_206 y7 r ru := by
          rcases q12 with s | s
          · rw [if_pos s]
          · rw [if_neg (by omega), if_pos s]
        rw [eX, eM]
        unfold fX2_contest_147 fX11_takeContest_206
        have hR7 := k7.1
        rw [hR7.1.oneOf (by decide) (by decide), hR7.2.1.may (w := 51) (by decide) (by decide), b2_s]
        have e249 : ∀ y8 op, fX11_takeContest_249 y8 r ru (w32 (r + 3)) op = some (st y8 1577 (r + 3) op, 1) := fun y8 op => by
          unfold fX11_takeContest_249 fX11_takeContest_250
          rw [w32_o (by omega), ck_pos (by omega), sd_e, if_neg q14]
        have done : ∀ (x8 : Dt) (y8 : Dt) (op : Int), SS t n N x7 y7 x8 y8 (i5 + 1 + 1) → 0 ≤ op ∧ op ≤ 1 → KQ t n N L p r A a b i C (st x8 p 3 op) (st y8 1577 (r + 3) op) := fun x8 y8 op s8 hop => by
          refine fin _ _ (i5 + 1 + 1) op (by omega) ((k7.ss s8 (by omega) (by omega)).sto (by omega) (by decide) (by omega)) (fun z => ?_) (fun q hq => ?_) (fun q hq => ?_) ?_ ?_ (st_eq _ _ _ _) (st_eq _ _ _ _) hop
          · rw [st_na (by omega)]; exact s8.2.2.1 z
          · rw [st_nk hq]; exact s8.1 _ _ (by omega) (by omega)
          · rw [st_nk (by omega)]; exact s8.2.1 _ _ (by omega)
          · rw [st_na (by omega), s8.1 _ _ (by omega) (by omega)]; exact x714
          · rw [st_na (by decide), s8.2.1 _ _ (by omega)]; exact y79
        by_cases q51 : wd t n (i5 + 1) = 51
        · rw [if_pos (by omega), if_pos q51]
          dsimp only
          rw [one_if]
          show CP (bx (bd _ _) th _) _ _ _
          rw [bx_bd]
          refine CP.tk (hR7.take (hR7.lt_w (by omega) rfl)) fun x8 s8 => ?_
          unfold fX11_takeContest_232
          rw [bx_s, one_if, e249, sd_e, show wd t n (i5 + 1) - 51 = 0 by omega]
          exact CP.ret (done x8 (nxb y7) 0 s8 (by decide))
        · rw [if_neg q51]
          dsimp only
          rw [zer_if]
          by_cases q52 : wd t n (i5 + 1) = 52
          · rw [if_pos (by omega)]
            show CP (bx (bd _ _) th _) _ _ _
            rw [bx_bd]
            refine CP.tk (hR7.take (hR7.lt_w (by omega) rfl)) fun x8 s8 => ?_
            have eW : fX11_takeWord y7 (-114) = some (nxb y7, 1) := by
              unfold fX11_takeWord
              rw [hR7.2.1.isWd (w := 52) (by decide) (by decide), if_pos q52, b1_s, one_if]
              rfl
            rw [eW, b2_s, one_if]
            unfold fX11_takeContest_232
            rw [bx_s, zer_if, e249, sd_e, show wd t n (i5 + 1) - 51 = 1 by omega]
            exact CP.ret (done x8 (nxb y7) 1 s8 (by decide))
          · rw [if_neg (by omega)]
            show CP (bx _ th _) _ _ _
            rw [bad_bx]
            have eW : fX11_takeWord y7 (-114) = b2 (fX11_miss y7) fun d5 x7 => ck (x7 = 0 ∨ x7 = 1) (some (d5, x7)) := by
              unfold fX11_takeWord
              rw [hR7.2.1.isWd (w := 52) (by decide) (by decide), if_neg q52, b1_s, zer_if]
            rw [eW]
            obtain ⟨⟨u1, o1⟩, e1, ⟨w1, r1⟩, e2, hr2⟩ := hR7.miss (Q := fun _ _ _ => False)
            rw [e1, e2, b2_s]
            dsimp only at hr2 ⊢
            rcases hr2 with ⟨rfl, rfl, hE⟩ | ⟨v, rfl, rfl, hF⟩
            · rw [zer_if]
              exact CP.bad (k7.ef (by omega) (by omega) hE)
            · exact hF.elim
      · rw [if_neg (by omega), if_neg (by omega), if_neg q14, if_neg (by omega), if_neg (by omega), if_neg q14]
        exact CP.ret (fin x7 y7 (i5 + 1) 0 (by omega) k7 Wm.refl (fun _ _ => rfl) (fun _ _ => rfl) x714 y79 x73 (y7z 3 (by decide) (by decide)) (by decide))
  · rw [if_neg q, if_neg (by omega)]
    unfold fX11_takeContest_165
    rw [if_neg (by decide)]
    show CP (bx _ th _) _ _ _
    rw [bad_bx]
    exact (hR5.miss (Q := fun _ _ _ => False)).mono (fun x' y' e => k5.ef (by omega) (by omega) e) (fun _ _ _ e => e.elim)
end KON2
