/-! LEVEL 3: a test is read -/
set_option maxRecDepth 100000
def SemT (D : List (Nat × Nat)) (V' : List Bool) (Lv' : List Lvl) : Prop := ∃ v V x y c e l, V' = v :: V ∧ Sem D V ((x, y, c, e) :: l) ∧ Lv' = (x, (y && (v != c)), false, e) :: l
theorem fsX_in {τ : Int → Bool} {R : Int → Int} {f : Int} (hf : 0 ≤ f) : ∀ m : Nat, fsX τ R f m = -1 ∨ 0 ≤ fsX τ R f m := by
  intro m
  induction m with
  | zero => exact Or.inl rfl
  | succ m ih =>
    simp only [fsX]
    by_cases q : 0 ≤ fsX τ R f m
    · rw [if_pos q]; exact Or.inr q
    · rw [if_neg q]
      by_cases r : τ (f + m) = decide (R (f + m) ≠ 0)
      · rw [if_pos r]; exact Or.inr (by omega)
      · rw [if_neg r]; exact Or.inl rfl
theorem par_dec {u v : Bool} : (v != u) = decide ((if (u != v) = true then (1 : Int) else 0) ≠ 0) := by cases u <;> cases v <;> decide
section TST
variable {t : Int → Int} {n : Int} {N : Nat} {a b : Dt} {L c W f A : Int} {i0 : Nat} {S S' : List (Nat × Nat) → List Bool → List Lvl → Prop} {x y : Dt} {j : Nat} {D : List (Nat × Nat)}
theorem CJ.ss (h : CJ t n N a b L c W f A i0 S x y j D) (hL : 15 ≤ L) (hc : L + 2 ≤ c ∧ c ≤ L + 4) {x' y' : Dt} {j' : Nat} (hs : SS t n N x y x' y' j') (hj : j ≤ j') : CJ t n N a b L c W f A i0 S x' y' j' D := by
  obtain ⟨⟨hR, hFX, hFM, hWm, hi⟩, ⟨w, z, E, hX, hb, hsm⟩, hst, ⟨hTR, hf0, hf1⟩, ⟨hc2, hc3, hL'⟩, hTS, hD, hA⟩ := h
  obtain ⟨s1, s2, s3, s4⟩ := hs
  have e9 : x' 10 9 = -1 → x 10 9 = -1 := fun q => by
    rcases Int.decEq (x 10 9) (-1) with r | r
    · exact absurd q (s3 r).1
    · exact r
  refine ⟨⟨s4, fun p q u1 u2 u3 u4 u5 u6 => ?_, fun p q u1 u2 u3 u4 u5 => ?_, hWm.trans s3, by omega⟩, ⟨w, z, E, hX.cg fun p q u => s1 p q (by omega) (by omega), by omega, fun q => ⟨(hsm (e9 q)).1, fun τ => ?_⟩⟩, ?_, ⟨⟨?_, ?_⟩, hf0, ?_⟩, ⟨?_, ?_, ?_⟩, fun q k k0 k1 => ?_, hD, ?_, ?_⟩
  · rw [s1 p q (by omega) u2]; exact hFX p q u1 u2 u3 u4 u5 u6
  · rw [s2 p q u1]; exact hFM p q u1 u2 u3 u4 u5
  · obtain ⟨V, Lv, g1, g2, g3⟩ := (hsm (e9 q)).2 τ
    have ee : evM f (x 10 13) τ (fun k => y' 1569 (4002 * W + k)) (y' 1570 W).toNat = evM f (x 10 13) τ (fun k => y 1569 (4002 * W + k)) (y 1570 W).toNat := by
      rw [s2 1570 W (by omega)]
      exact evM_cg fun k _ _ => s2 _ _ (by omega)
    refine ⟨V, Lv, g1, ?_, g3⟩
    rw [s1 10 13 (by omega) (by omega), ee, g2]
    congr 2
    exact (fsX_cg fun k _ _ => s1 _ _ (by omega) (by omega)).symm
  · rw [s2 1570 W (by omega)]; omega
  · rw [s1 _ _ (by omega) (by omega)]; exact hTR.1
  · rw [s1 _ _ (by omega) (by omega), s2 _ _ (by omega)]
    rcases hTR.2 with q | q
    · exact Or.inl q
    · exact Or.inr ⟨q.1, q.2.1, (s3 q.2.2).1⟩
  · rw [s1 _ _ (by omega) (by omega)]; exact hf1
  · rw [s1 _ _ (by omega) (by omega)]; exact hc2
  · rw [s1 _ _ (by omega) (by omega), s1 _ _ (by omega) (by omega)]; exact hc3
  · rw [s1 _ _ (by omega) (by omega)]; exact hL'
  · rw [s1 10 13 (by omega) (by omega)] at k1
    exact (hTS (e9 q) k k0 k1).cg (fun p p0 p1 => s1 _ _ (by omega) (by omega)) (fun p p0 p1 => s2 _ _ (by omega))
  · rw [s1 _ _ (by omega) (by omega)]; exact hA.1
  · rw [s2 _ _ (by omega)]; exact hA.2
set_option maxHeartbeats 4000000
/-- the test is kept -/
theorem test_fin {w so nn v5 v7 p : Int} {q0 : Nat × Nat} {D0 : List (Nat × Nat)} (h : CJ t n N a b L c W f A i0 Sem x y j (q0 :: D0)) (hL : 15 ≤ L) (hc : L + 2 ≤ c ∧ c ≤ L + 4) (hW : 0 ≤ W ∧ W ≤ 1) (hp : 0 ≤ p ∧ p ≤ 4000) (hN : (j : Int) ≤ 4001)
    (hw : x 10 9 = -1 → ((w = 17 ∧ so = 0 ∧ nn ≤ 150) ∨ (w = 18 ∧ so = 1 ∧ 1 ≤ nn ∧ nn ≤ 400) ∨ (w = 9 ∧ so = 2 ∧ nn < A) ∨ (w = 19 ∧ so = 3 ∧ nn ≤ 9)) ∧ ((v5 = -1 ∧ v7 = -2147483648) ∨ (v5 = v7 ∧ 0 ≤ v5 ∧ v5 ≤ 36524))) (hn : 0 ≤ nn) {E : Dt → Dt → Prop} (hroom : (∃ w z E, XC c x (flat (q0 :: D0)) E w z (par (q0 :: D0)) ∧ w + z + 2 ≤ (j : Int)) ∧ y 1570 W + 2 ≤ (j : Int)) : CP (fX2_test_97 x c p w nn v5) (fX11_takeTest_186 y W p so nn v7) E (fun _ x' y' => CJ t n N a b L c W f A i0 SemT x' y' j (q0 :: D0)) := by
  have hh := h
  obtain ⟨⟨hR, hFX, hFM, hWm, hi⟩, ⟨w0, z0, E0, hX, hb, hsm⟩, hst, ⟨hTR, hf0, hf1⟩, ⟨hc2, hc3, hL'⟩, hTS, hD, hA⟩ := h
  unfold fX2_test_97 fX11_takeTest_186
  rw [min_if, lv_e]
  by_cases q40 : 40 ≤ x 10 13
  · -- there are too many
    have nb := hh.nb hL hc hp
    have e40 : x 10 13 = 40 := by have := hTR.1; omega
    have y40 : y 1571 0 = 40 ∨ y 1571 0 = 41 := by rcases hTR.2 with r | r <;> omega
    have m40 : (if y 1571 0 ≤ 40 then y 1571 0 else 40) = 40 := by split <;> omega
    rw [if_pos q40, if_neg (by omega), m40]
    unfold fX2_test_112 fX11_takeTest_215
    rw [note_X, bd_s, nt_at (by decide), if_pos q40, blame_M, bd_s, sd_e, ck_pos (by decide), sd_e, sd_e, sd_e, sd_e]
    generalize hy2 : st (st (st (st (st (bl y p) 1571 0 (w32 (40 + 1))) 1572 40 so) 1573 40 nn) 1574 40 v7) 1575 40 p = y2
    have ey : ∀ p' q, ¬ (p' = 1545 ∧ q = 31) → ¬ (p' = 1571 ∧ q = 0) → ¬ (1572 ≤ p' ∧ p' ≤ 1575 ∧ q = 40) → y2 p' q = y p' q := fun p' q u1 u2 u3 => by
      rw [← hy2]
      unfold st
      rw [if_neg (by omega), if_neg (by omega), if_neg (by omega), if_neg (by omega), if_neg (by omega)]
      exact bl_at u1
    have e71 : y2 1571 0 = 41 := by rw [← hy2]; simp (disch := omega) only [w32_o, w64_o, w8_o, st_eq, st_na, st_nk, ck_pos, wp_sd, wp_lv, wp_lm, wp_some, wp_b1, wp_bd, wp_b2, wp_b3, wp_up, wp_map]; rfl
    have ey31 : y2 1545 31 = bl y p 1545 31 := by rw [← hy2]; simp (disch := omega) only [w32_o, w64_o, w8_o, st_eq, st_na, st_nk, ck_pos, wp_sd, wp_lv, wp_lm, wp_some, wp_b1, wp_bd, wp_b2, wp_b3, wp_up, wp_map]
    rw [addStep_M hW (by rw [ey _ _ (by omega) (by omega) (by omega)]; omega), bd_s]
    obtain ⟨⟨⟨nR, nFX, nFM, nWm, ni⟩, ⟨w1, z1, E1, nX, nbb, -⟩, nst, ⟨nTR, nf0, nf1⟩, ⟨nc2, nc3, nL'⟩, -, nD, nA⟩, n9⟩ := nb
    have e70 : y2 1570 W = y 1570 W := ey _ _ (by omega) (by omega) (by omega)
    have ez : ∀ p' q, ¬ (p' = 1545 ∧ q = 31) → ¬ (p' = 1571 ∧ q = 0) → ¬ (1572 ≤ p' ∧ p' ≤ 1575 ∧ q = 40) → ¬ (p' = 1569 ∧ q = 4002 * W + y 1570 W) → ¬ (p' = 1570 ∧ q = W) → aS y2 W 40 p' q = y p' q := fun p' q u1 u2 u3 u4 u5 => by
      rw [aS_at (by rw [e70]; exact u4) u5]; exact ey p' q u1 u2 u3
    refine CP.ret ⟨⟨?_, nFX, fun p' q u1 u2 u3 u4 u5 => ?_, nWm, ni⟩, ⟨w1, z1, E1, nX, nbb, fun q => absurd q n9⟩, ?_, ⟨⟨nTR.1, ?_⟩, nf0, nf1⟩, ⟨nc2, nc3, nL'⟩, fun q => absurd q n9, nD, nA.1, ?_⟩
    · refine nR.cg2 (fun _ _ _ => rfl) (fun p' q u => ?_)
      by_cases z : p' = 1545 ∧ q = 31
      · obtain ⟨rfl, rfl⟩ := z
        rw [aS_at (by omega) (by omega)]; exact ey31
      · rw [ez p' q z (by omega) (by omega) (by omega) (by omega), bl_at z]
    · rw [ez p' q (by omega) (by omega) (by omega) (by omega) u3]; exact hFM p' q u1 u2 u3 u4 u5
    · rw [(aS_ev (lo := 0) (hi := 0) (τ := fun _ => true) (by rw [e70]; exact hst.1)).1, e70]; omega
    · refine Or.inr ⟨by rw [nt_at (by decide)]; exact e40, ?_, n9⟩
      rw [aS_at (by omega) (by omega)]; exact e71
    · rw [ez _ _ (by omega) (by omega) (by omega) (by omega) (by omega)]; exact hA.2
  · have e71 : y 1571 0 = x 10 13 := by rcases hTR.2 with r | r <;> omega
    have hx0 := hTR.1
    rw [if_neg q40, if_pos (by omega), if_pos (by omega), e71]
    unfold fX2_test_112 fX11_takeTest_215
    rw [note_X, nt_1, bd_s, if_neg q40]
    generalize hT : x 10 13 = T at *
    have l1 : ∀ p' v, L ≤ p' → st x p' T v 10 10 = L := fun p' v u => by rw [st_na (by omega)]; exact hL'
    simp (disch := omega) only [lv_e, sd_e, hL', hT, ck_pos, st_na, st_nk, w32_o]
    generalize hy2 : st (st (st (st (st y 1571 0 (T + 1)) 1572 T so) 1573 T nn) 1574 T v7) 1575 T p = y2
    generalize hx2 : st (st (st (st (st x (L + 6) T w) (L + 7) T nn) (L + 8) T v5) (L + 9) T p) (L + 10) T (x 10 16 % 2) = x2
    have ey : ∀ p' q, ¬ (p' = 1571 ∧ q = 0) → ¬ (1572 ≤ p' ∧ p' ≤ 1575 ∧ q = T) → y2 p' q = y p' q := fun p' q u2 u3 => by
      rw [← hy2]
      unfold st
      rw [if_neg (by omega), if_neg (by omega), if_neg (by omega), if_neg (by omega), if_neg (by omega)]
    have ex : ∀ p' q, ¬ (L + 6 ≤ p' ∧ p' ≤ L + 10 ∧ q = T) → x2 p' q = x p' q := fun p' q u3 => by
      rw [← hx2]
      unfold st
      rw [if_neg (by omega), if_neg (by omega), if_neg (by omega), if_neg (by omega), if_neg (by omega)]
    have y71 : y2 1571 0 = T + 1 := by rw [← hy2]; simp (disch := omega) only [w32_o, w64_o, w8_o, st_eq, st_na, st_nk, ck_pos, wp_sd, wp_lv, wp_lm, wp_some, wp_b1, wp_bd, wp_b2, wp_b3, wp_up, wp_map]
    have y72 : y2 1572 T = so ∧ y2 1573 T = nn ∧ y2 1574 T = v7 ∧ y2 1575 T = p := by rw [← hy2]; exact ⟨by simp (disch := omega) only [w32_o, w64_o, w8_o, st_eq, st_na, st_nk, ck_pos, wp_sd, wp_lv, wp_lm, wp_some, wp_b1, wp_bd, wp_b2, wp_b3, wp_up, wp_map], by simp (disch := omega) only [w32_o, w64_o, w8_o, st_eq, st_na, st_nk, ck_pos, wp_sd, wp_lv, wp_lm, wp_some, wp_b1, wp_bd, wp_b2, wp_b3, wp_up, wp_map], by simp (disch := omega) only [w32_o, w64_o, w8_o, st_eq, st_na, st_nk, ck_pos, wp_sd, wp_lv, wp_lm, wp_some, wp_b1, wp_bd, wp_b2, wp_b3, wp_up, wp_map], by simp (disch := omega) only [w32_o, w64_o, w8_o, st_eq, st_na, st_nk, ck_pos, wp_sd, wp_lv, wp_lm, wp_some, wp_b1, wp_bd, wp_b2, wp_b3, wp_up, wp_map]⟩
    have x72 : x2 (L + 6) T = w ∧ x2 (L + 7) T = nn ∧ x2 (L + 8) T = v5 ∧ x2 (L + 9) T = p ∧ x2 (L + 10) T = x 10 16 % 2 := by rw [← hx2]; exact ⟨by simp (disch := omega) only [w32_o, w64_o, w8_o, st_eq, st_na, st_nk, ck_pos, wp_sd, wp_lv, wp_lm, wp_some, wp_b1, wp_bd, wp_b2, wp_b3, wp_up, wp_map], by simp (disch := omega) only [w32_o, w64_o, w8_o, st_eq, st_na, st_nk, ck_pos, wp_sd, wp_lv, wp_lm, wp_some, wp_b1, wp_bd, wp_b2, wp_b3, wp_up, wp_map], by simp (disch := omega) only [w32_o, w64_o, w8_o, st_eq, st_na, st_nk, ck_pos, wp_sd, wp_lv, wp_lm, wp_some, wp_b1, wp_bd, wp_b2, wp_b3, wp_up, wp_map], by simp (disch := omega) only [w32_o, w64_o, w8_o, st_eq, st_na, st_nk, ck_pos, wp_sd, wp_lv, wp_lm, wp_some, wp_b1, wp_bd, wp_b2, wp_b3, wp_up, wp_map], by simp (disch := omega) only [w32_o, w64_o, w8_o, st_eq, st_na, st_nk, ck_pos, wp_sd, wp_lv, wp_lm, wp_some, wp_b1, wp_bd, wp_b2, wp_b3, wp_up, wp_map]⟩
    have e70 : y2 1570 W = y 1570 W := ey _ _ (by omega) (by omega)
    have ez : ∀ p' q, ¬ (p' = 1571 ∧ q = 0) → ¬ (1572 ≤ p' ∧ p' ≤ 1575 ∧ q = T) → ¬ (p' = 1569 ∧ q = 4002 * W + y 1570 W) → ¬ (p' = 1570 ∧ q = W) → aS y2 W T p' q = y p' q := fun p' q u2 u3 u4 u5 => by
      rw [aS_at (by rw [e70]; exact u4) u5]; exact ey p' q u2 u3
    obtain ⟨⟨w1, z1, E1, hX1, hr1⟩, hr2⟩ := hroom
    obtain ⟨⟨k1, k2, k3, k4⟩, k5, k6, k7⟩ := hX1
    have x1c : x2 c 1 = z1 := by rw [ex _ _ (by omega)]; exact k2
    rw [addStep_M hW (by rw [e70]; omega), bd_s, put_X (by rw [x1c]; omega), bd_s, x1c, st_na (by omega), st_na (by omega), ex _ _ (by omega), hT, w32_o (by omega)]
    rw [st_eq]
    generalize hx3 : st (st (st (st x2 (c + 1) z1 T) c 1 (z1 + 1)) 10 13 (T + 1)) c 3 (T + 1) = x3
    have ex3 : ∀ p' q, ¬ (L + 6 ≤ p' ∧ p' ≤ L + 10 ∧ q = T) → ¬ (p' = c + 1 ∧ q = z1) → ¬ (p' = c ∧ (q = 1 ∨ q = 3)) → ¬ (p' = 10 ∧ q = 13) → x3 p' q = x p' q := fun p' q u1 u2 u3 u4 => by
      rw [← hx3]
      unfold st
      rw [if_neg (by omega), if_neg (by omega), if_neg (by omega), if_neg (by omega)]
      exact ex p' q u1
    have ex32 : ∀ p' q, L + 6 ≤ p' → p' ≤ L + 10 → x3 p' q = x2 p' q := fun p' q u1 u2 => by
      rw [← hx3]
      unfold st
      rw [if_neg (by omega), if_neg (by omega), if_neg (by omega), if_neg (by omega)]
    have x313 : x3 10 13 = T + 1 := by rw [← hx3]; simp (disch := omega) only [w32_o, w64_o, w8_o, st_eq, st_na, st_nk, ck_pos, wp_sd, wp_lv, wp_lm, wp_some, wp_b1, wp_bd, wp_b2, wp_b3, wp_up, wp_map]
    have x3c1 : x3 c 1 = z1 + 1 := by rw [← hx3]; simp (disch := omega) only [w32_o, w64_o, w8_o, st_eq, st_na, st_nk, ck_pos, wp_sd, wp_lv, wp_lm, wp_some, wp_b1, wp_bd, wp_b2, wp_b3, wp_up, wp_map]
    have x3c3 : x3 c 3 = T + 1 := by rw [← hx3]; simp (disch := omega) only [w32_o, w64_o, w8_o, st_eq, st_na, st_nk, ck_pos, wp_sd, wp_lv, wp_lm, wp_some, wp_b1, wp_bd, wp_b2, wp_b3, wp_up, wp_map]
    have x3c : x3 (c + 1) z1 = T := by rw [← hx3]; simp (disch := omega) only [w32_o, w64_o, w8_o, st_eq, st_na, st_nk, ck_pos, wp_sd, wp_lv, wp_lm, wp_some, wp_b1, wp_bd, wp_b2, wp_b3, wp_up, wp_map]
    have e9 : x3 10 9 = x 10 9 := ex3 _ _ (by omega) (by omega) (by omega) (by omega)
    have o16 : x 10 16 % 2 = if par (q0 :: D0) = true then 1 else 0 := by
      rw [k7]
      cases par (q0 :: D0) <;> decide
    refine CP.ret ⟨⟨?_, fun p' q u1 u2 u3 u4 u5 u6 => ?_, fun p' q u1 u2 u3 u4 u5 => ?_, fun q => by rw [e9]; exact hWm q, hi⟩, ⟨w1, z1 + 1, fun τ => sX f (T + 1) τ T (ev f (T + 1) τ (x (c + 1)) z1.toNat), ⟨⟨?_, x3c1, k3, by omega⟩, ?_, fun τ => ?_, ?_⟩, by omega, fun q => ?_⟩, ?_, ⟨⟨by omega, Or.inl ?_⟩, hf0, by omega⟩, ⟨?_, by rw [x3c3, x313], ?_⟩, fun q k k0 kk => ?_, hD, ?_, ?_⟩
    · exact hR.cg2 (fun p' q u => ex3 _ _ (by omega) (by omega) (by omega) (by omega)) (fun p' q u => ez _ _ (by omega) (by omega) (by omega) (by omega))
    · rw [ex3 _ _ (by omega) (by omega) (by omega) (by omega)]; exact hFX p' q u1 u2 u3 u4 u5 u6
    · rw [ez _ _ (by omega) (by omega) (by omega) u3]; exact hFM p' q u1 u2 u3 u4 u5
    · rw [ex3 _ _ (by omega) (by omega) (by omega) (by omega)]; exact k1
    · rw [← k5]; exact rdS_cg fun k _ _ => ex3 _ _ (by omega) (by omega) (by omega) (by omega)
    · rw [show (z1 + 1).toNat = z1.toNat + 1 by omega, x313, ex3 c 2 (by omega) (by omega) (by omega) (by omega), hc2]
      simp only [ev]
      rw [show ((z1.toNat : Nat) : Int) = z1 by omega, x3c]
      congr 1
      exact ev_cg fun k _ _ => ex3 _ _ (by omega) (by omega) (by omega) (by omega)
    · rw [ex3 _ _ (by omega) (by omega) (by omega) (by omega)]; exact k7
    · rw [e9] at q
      refine ⟨(hsm q).1, fun τ => ?_⟩
      obtain ⟨V, Lv, g1, g2, gS⟩ := (hsm q).2 τ
      have eE : ev f (T + 1) τ (x (c + 1)) z1.toNat = some V := by
        have e0 := hX.2.2.1 τ
        rw [g1, hc2, hT] at e0
        have : z0 = z1 := by rw [← hX.1.2.1, ← k2]
        rw [this] at e0
        exact ev_up (by omega) e0
      have ee : evM f (T + 1) τ (fun k => aS y2 W T 1569 (4002 * W + k)) (aS y2 W T 1570 W).toNat = sM f (T + 1) τ T (evM f (T + 1) τ (fun k => y 1569 (4002 * W + k)) (y 1570 W).toNat) := by
        rw [(aS_ev (by rw [e70]; exact hst.1)).2, e70]
        congr 1
        exact evM_cg fun k _ _ => ey _ _ (by omega) (by omega)
      obtain ⟨kk, ss⟩ := q0
      have gS' := gS
      obtain ⟨xx, yy, WW, LL, rfl, hS2, hS3⟩ := gS
      refine ⟨τ T :: V, (xx, (yy && (τ T != odd kk)), false, par D0) :: LL, ?_, ?_, ⟨τ T, V, xx, yy, odd kk, par D0, LL, rfl, gS', rfl⟩⟩
      · dsimp only
        rw [eE]
        simp only [sX]
        rw [if_neg (by omega), if_neg (by omega), if_neg (by omega), if_pos (by omega)]
      rw [x313, ee, evM_up (by omega) g2]
      simp only [sM]
      rw [if_pos (by omega), if_pos (by omega)]
      generalize hg0 : fsX τ (x (L + 10)) f (T - f).toNat = g0 at *
      rw [show (T + 1 - f).toNat = (T - f).toNat + 1 by omega]
      simp only [fsX]
      have fe : fsX τ (x3 (L + 10)) f (T - f).toNat = g0 := by
        rw [← hg0]
        refine fsX_cg fun k _ _ => ?_
        rw [ex32 _ _ (by omega) (by omega), ex _ _ (by omega)]
      rw [fe, show f + ((T - f).toNat : Int) = T by omega, ex32 _ _ (by omega) (by omega), x72.2.2.2.2, o16]
      have fi := fsX_in (τ := τ) (R := x (L + 10)) hf0 (T - f).toNat
      rw [hg0] at fi
      have pe : (par D0 != odd kk) = decide ((if par ((kk, ss) :: D0) = true then (1 : Int) else 0) ≠ 0) := par_dec (u := odd kk) (v := par D0)
      rw [pe]
      congr 2
      by_cases q0 : 0 ≤ g0
      · rw [if_pos q0, if_neg (by omega)]
      · rw [if_neg q0]
        by_cases q1 : τ T = decide ((if par ((kk, ss) :: D0) = true then (1 : Int) else 0) ≠ 0)
        · rw [if_pos ⟨by omega, q1⟩, if_pos q1]
        · rw [if_neg (fun z => q1 z.2), if_neg q1]; omega
    · rw [(aS_ev (lo := 0) (hi := 0) (τ := fun _ => true) (by rw [e70]; exact hst.1)).1, e70]; omega
    · rw [aS_at (by omega) (by omega), y71, x313]
    · rw [ex3 _ _ (by omega) (by omega) (by omega) (by omega)]; exact hc2
    · rw [ex3 _ _ (by omega) (by omega) (by omega) (by omega)]; exact hL'
    · rw [e9] at q
      by_cases z : k = T
      · subst z
        obtain ⟨hw1, hw2⟩ := hw q
        unfold TS
        rw [ex32 _ _ (by omega) (by omega), ex32 _ _ (by omega) (by omega), ex32 _ _ (by omega) (by omega), ex32 _ _ (by omega) (by omega), ex32 _ _ (by omega) (by omega), aS_at (by omega) (by omega), aS_at (by omega) (by omega), aS_at (by omega) (by omega), aS_at (by omega) (by omega), x72.1, x72.2.1, x72.2.2.1, x72.2.2.2.1, x72.2.2.2.2, y72.1, y72.2.1, y72.2.2.1, y72.2.2.2]
        exact ⟨hw1, ⟨hn, rfl⟩, hw2, rfl, hp, by omega⟩
      · rw [x313] at kk
        exact (hTS q k k0 (by omega)).cg (fun p' p0 p1 => ex3 _ _ (by omega) (by omega) (by omega) (by omega)) (fun p' p0 p1 => ez _ _ (by omega) (by omega) (by omega) (by omega))
    · rw [ex3 _ _ (by omega) (by omega) (by omega) (by omega)]; exact hA.1
    · rw [ez _ _ (by omega) (by omega) (by omega) (by omega)]; exact hA.2
end TST
