/-! LEVEL 3: fact, move -/
set_option maxRecDepth 100000
theorem op_fact {m d : Dt} {a1 a2 a3 a4 a5 : Int} (h1 : R1 d) (h4 : R4 m d) (hK : Kon d) (i1 : in32 a1) (i4 : in32 a4) (i5 : in32 a5) : wp (fX0_fact d a1 a2 a3 a4 a5) (fun p => wp (fX11_fact p.1 a1 a2 a3 a4 a5) (fun q => q.2 = p.2 ∧ Sm m [1, 4] d q.1 ∧ R1 q.1 ∧ R4 m q.1)) := by
  have h4' := h4
  obtain ⟨a, b, c, -⟩ := h4
  have h1' := h1
  obtain ⟨h, n, bx, bm⟩ := h1
  have j1 := isP_X (p := a1) b
  have j2 := isP_M (d := d) (p := a1) (by rw [← a]; exact b)
  rw [← a] at j2
  have bad : ∀ r : Int, wp (some (d, r)) (fun q => q.2 = r ∧ Sm m [1, 4] d q.1 ∧ R1 q.1 ∧ R4 m q.1) := fun r => wp_some.mpr ⟨rfl, Sm.refl, h1', h4'⟩
  unfold fX0_fact
  by_cases q1 : 0 ≤ a1 ∧ a1 < d 1 5
  · rw [if_neg (fun q => j1.mp q q1)]
    by_cases q2 : 0 ≤ a2 ∧ a2 ≤ 9
    · rw [if_neg (within_0.mpr q2)]
      by_cases q3 : 0 ≤ a3 ∧ a3 ≤ 1
      · rw [if_neg (within_0.mpr q3)]
        by_cases q4 : -36524 ≤ a4 ∧ a4 ≤ 36524
        · rw [if_neg (fun q => isD_X.mp q q4)]
          by_cases q5 : a4 ≤ a5 ∧ a5 ≤ 36524
          · rw [if_neg (within_0.mpr q5)]
            have q6 : -36524 ≤ a5 ∧ a5 ≤ 36524 := by omega
            obtain ⟨c1, c2⟩ := c a1 q1.1 q1.2
            have x0 := c1.1
            obtain ⟨g1, g2, g3, g4, g5, g6⟩ := c2
            generalize hO : d 9 a1 = o at *
            rw [wp_ck, wp_lv, wp_ck]
            refine ⟨by omega, by omega, ?_⟩
            by_cases q7 : d o 13 = 12
            · rw [if_pos q7, wp_some]
              dsimp only
              unfold fX11_fact
              rw [if_neg (fun q => j2.mp q q1), if_neg (fun q => in_1.mp q q2), if_neg (fun q => in_1.mp q q3), if_neg (fun q => isD_M.mp q q4), if_neg (fun q => isD_M.mp q q6), if_pos q5.1, wp_ck, if_pos (by omega)]
              exact ⟨by omega, bad _⟩
            · rw [if_neg q7, wp_bd, w32_of (show (-2147483648 : Int) ≤ 2 * a2 by omega) (show 2 * a2 ≤ (2147483647 : Int) by omega), w32_of (show (-2147483648 : Int) ≤ 2 * a2 + a3 by omega) (show 2 * a2 + a3 ≤ (2147483647 : Int) by omega)]
              refine (Tk.ini (m := m) bx bm hK).wX.mono fun d1 k1 => ?_
              have e1 : ∀ y, d1 o y = d o y := fun y => k1.at 4 o y (c1.md0 _)
              rw [wp_lv, k1.at 4 9 a1, hO, wp_ck, wp_b2]
              refine ⟨by omega, ?_⟩
              unfold fX13_fact
              have r1 : ∀ D : Dt, ∀ j k v, 1 ≤ j → D o 13 = d o 13 → st D (o + j) k v o 13 = d o 13 := fun D j k v u w => by rw [st_na (by omega), w]
              have t0 := e1 13
              generalize hN : d o 13 = N at *
              have t1 := r1 d1 3 N a2 (by decide) t0
              have t2 := r1 _ 4 N a3 (by decide) t1
              have t3 := r1 _ 5 N a4 (by decide) t2
              have t4 := r1 _ 6 N a5 (by decide) t3
              simp only [wp_ck, wp_sd, wp_lv, wp_lm, wp_some, wp_b1, wp_bd, wp_b2, wp_b3, wp_up, wp_map, t0, t1, t2, t3, t4, st_eq, w32_of (show (-2147483648 : Int) ≤ N + 1 by omega) (show N + 1 ≤ (2147483647 : Int) by omega)]
              refine ⟨by omega, by omega, by omega, by omega, ?_⟩
              have k2 := ((((k1.sto (a := o + 3) (k := N) (v := a2) 4 (c1.md (by decide) (by decide) _)).sto (a := o + 4) (k := N) (v := a3) 4 (c1.md (by decide) (by decide) _)).sto (a := o + 5) (k := N) (v := a4) 4 (c1.md (by decide) (by decide) _)).sto (a := o + 6) (k := N) (v := a5) 4 (c1.md (by decide) (by decide) _)).sto (a := o) (k := 13) (v := N + 1) 4 (c1.md0 _)
              have s2 : Sm m [4] d (st (st (st (st (st d (o + 3) N a2) (o + 4) N a3) (o + 5) N a4) (o + 6) N a5) o 13 (N + 1)) := ((((Sm.sto 4 (c1.md (by decide) (by decide) _)).trans (Sm.sto 4 (c1.md (by decide) (by decide) _)) (T := [4])).trans (Sm.sto 4 (c1.md (by decide) (by decide) _)) (T := [4])).trans (Sm.sto 4 (c1.md (by decide) (by decide) _)) (T := [4])).trans (Sm.sto 4 (c1.md0 _))
              have v1 : ∀ x y, x < 1666 → st (st (st (st (st d (o + 3) N a2) (o + 4) N a3) (o + 5) N a4) (o + 6) N a5) o 13 (N + 1) x y = d x y := fun x y u => by
                rw [st_na (by omega), st_na (by omega), st_na (by omega), st_na (by omega), st_na (by omega)]
              have v2 : ∀ x y, x < o ∨ o + 7 ≤ x → st (st (st (st (st d (o + 3) N a2) (o + 4) N a3) (o + 5) N a4) (o + 6) N a5) o 13 (N + 1) x y = d x y := fun x y u => by
                rw [st_na (by omega), st_na (by omega), st_na (by omega), st_na (by omega), st_na (by omega)]
              have v3 : ∀ y, st (st (st (st (st d (o + 3) N a2) (o + 4) N a3) (o + 5) N a4) (o + 6) N a5) o 13 (N + 1) o y = if y = 13 then N + 1 else d o y := fun y => by
                by_cases z : y = 13
                · subst z; rw [st_eq, if_pos rfl]
                · rw [st_nk z, st_na (by omega), st_na (by omega), st_na (by omega), st_na (by omega), if_neg z]
              have v4 : ∀ j, j = 1 ∨ j = 2 → st (st (st (st (st d (o + 3) N a2) (o + 4) N a3) (o + 5) N a4) (o + 6) N a5) o 13 (N + 1) (o + j) = d (o + j) := fun j u => funext fun y => by
                rw [st_na (by omega), st_na (by omega), st_na (by omega), st_na (by omega), st_na (by omega)]
              have v5 : ∀ k, st (st (st (st (st d (o + 3) N a2) (o + 4) N a3) (o + 5) N a4) (o + 6) N a5) o 13 (N + 1) (o + 3) k = (if k = N then a2 else d (o + 3) k) ∧ st (st (st (st (st d (o + 3) N a2) (o + 4) N a3) (o + 5) N a4) (o + 6) N a5) o 13 (N + 1) (o + 4) k = (if k = N then a3 else d (o + 4) k) ∧ st (st (st (st (st d (o + 3) N a2) (o + 4) N a3) (o + 5) N a4) (o + 6) N a5) o 13 (N + 1) (o + 5) k = (if k = N then a4 else d (o + 5) k) ∧ st (st (st (st (st d (o + 3) N a2) (o + 4) N a3) (o + 5) N a4) (o + 6) N a5) o 13 (N + 1) (o + 6) k = (if k = N then a5 else d (o + 6) k) := fun k => by
                by_cases z : k = N
                · subst z
                  simp only [if_true]
                  refine ⟨?_, ?_, ?_, ?_⟩
                  · rw [st_na (by omega), st_na (by omega), st_na (by omega), st_na (by omega), st_eq]
                  · rw [st_na (by omega), st_na (by omega), st_na (by omega), st_eq]
                  · rw [st_na (by omega), st_na (by omega), st_eq]
                  · rw [st_na (by omega), st_eq]
                · simp only [if_neg z]
                  refine ⟨?_, ?_, ?_, ?_⟩
                  · rw [st_na (by omega), st_na (by omega), st_na (by omega), st_na (by omega), st_nk z]
                  · rw [st_na (by omega), st_na (by omega), st_na (by omega), st_nk z, st_na (by omega)]
                  · rw [st_na (by omega), st_na (by omega), st_nk z, st_na (by omega), st_na (by omega)]
                  · rw [st_na (by omega), st_nk z, st_na (by omega), st_na (by omega), st_na (by omega)]
              generalize st (st (st (st (st d (o + 3) N a2) (o + 4) N a3) (o + 5) N a4) (o + 6) N a5) o 13 (N + 1) = E at *
              generalize st (st (st (st (st d1 (o + 3) N a2) (o + 4) N a3) (o + 5) N a4) (o + 6) N a5) o 13 (N + 1) = D at *
              have f1 : ∀ x k, mo m x k = 4 → x < 1666 → D x k = d x k := fun x k u v => by rw [k2.at 4 x k u, v1 x k v]
              unfold fX11_fact
              have j3 := isP_M (d := D) (p := a1) (by rw [f1 1545 10 rfl (by omega), ← a]; exact b)
              rw [f1 1545 10 rfl (by omega), ← a] at j3
              rw [if_neg (fun q => j3.mp q q1), if_neg (fun q => in_1.mp q q2), if_neg (fun q => in_1.mp q q3), if_neg (fun q => isD_M.mp q q4), if_neg (fun q => isD_M.mp q q6), if_pos q5.1, wp_ck, f1 1560 a1 rfl (by omega), if_neg (by omega), ← g4]
              refine ⟨by omega, ?_⟩
              have fR : D 1560 a1 = N := by rw [f1 1560 a1 rfl (by omega), ← g4]
              have f2 : st (st (st (st D 1561 (12 * a1 + N) a2) 1562 (12 * a1 + N) a3) 1563 (12 * a1 + N) a4) 1564 (12 * a1 + N) a5 1560 a1 = N := by rw [st_na (by decide), st_na (by decide), st_na (by decide), st_na (by decide), fR]
              simp only [wp_ck, wp_sd, wp_lv, wp_lm, wp_some, wp_b1, wp_bd, wp_b2, wp_b3, wp_up, wp_map, w32_of (show (-2147483648 : Int) ≤ 12 * a1 by omega) (show 12 * a1 ≤ (2147483647 : Int) by omega), w32_of (show (-2147483648 : Int) ≤ 12 * a1 + N by omega) (show 12 * a1 + N ≤ (2147483647 : Int) by omega), f2, w32_of (show (-2147483648 : Int) ≤ N + 1 by omega) (show N + 1 ≤ (2147483647 : Int) by omega), w32_of (show (-2147483648 : Int) ≤ 2 * a2 by omega) (show 2 * a2 ≤ (2147483647 : Int) by omega), w32_of (show (-2147483648 : Int) ≤ 2 * a2 + a3 by omega) (show 2 * a2 + a3 ≤ (2147483647 : Int) by omega)]
              refine ⟨by omega, ?_⟩
              have k3 := ((((k2.sto (a := 1561) (k := 12 * a1 + N) (v := a2) 4).sto (a := 1562) (k := 12 * a1 + N) (v := a3) 4).sto (a := 1563) (k := 12 * a1 + N) (v := a4) 4).sto (a := 1564) (k := 12 * a1 + N) (v := a5) 4).sto (a := 1560) (k := a1) (v := N + 1) 4
              refine (k3.wM bx.in ⟨by decide, by decide⟩ i1 ⟨by omega, by omega⟩ i4 i5).mono fun d2 k4 => ?_
              have s3 : Sm m [4] E (st (st (st (st (st E 1561 (12 * a1 + N) a2) 1562 (12 * a1 + N) a3) 1563 (12 * a1 + N) a4) 1564 (12 * a1 + N) a5) 1560 a1 (N + 1)) := ((((Sm.sto 4).trans (Sm.sto 4) (T := [4])).trans (Sm.sto 4) (T := [4])).trans (Sm.sto 4) (T := [4])).trans (Sm.sto 4)
              refine ⟨?_, k4.end4 (s2.trans s3) ?_⟩
              · rw [k4.at 4 1560 a1, st_eq]
              · have u1 : ∀ x y, x < 1560 ∨ x = 1545 ∨ 1565 ≤ x → st (st (st (st (st E 1561 (12 * a1 + N) a2) 1562 (12 * a1 + N) a3) 1563 (12 * a1 + N) a4) 1564 (12 * a1 + N) a5) 1560 a1 (N + 1) x y = E x y := fun x y u => by
                  rw [st_na (by omega), st_na (by omega), st_na (by omega), st_na (by omega), st_na (by omega)]
                have u2 : ∀ y, st (st (st (st (st E 1561 (12 * a1 + N) a2) 1562 (12 * a1 + N) a3) 1563 (12 * a1 + N) a4) 1564 (12 * a1 + N) a5) 1560 a1 (N + 1) 1560 y = if y = a1 then N + 1 else d 1560 y := fun y => by
                  by_cases z : y = a1
                  · subst z; rw [st_eq, if_pos rfl]
                  · rw [st_nk z, st_na (by decide), st_na (by decide), st_na (by decide), st_na (by decide), if_neg z, v1 _ _ (by decide)]
                have u3 : ∀ y, st (st (st (st (st E 1561 (12 * a1 + N) a2) 1562 (12 * a1 + N) a3) 1563 (12 * a1 + N) a4) 1564 (12 * a1 + N) a5) 1560 a1 (N + 1) 1561 y = (if y = 12 * a1 + N then a2 else d 1561 y) ∧ st (st (st (st (st E 1561 (12 * a1 + N) a2) 1562 (12 * a1 + N) a3) 1563 (12 * a1 + N) a4) 1564 (12 * a1 + N) a5) 1560 a1 (N + 1) 1562 y = (if y = 12 * a1 + N then a3 else d 1562 y) ∧ st (st (st (st (st E 1561 (12 * a1 + N) a2) 1562 (12 * a1 + N) a3) 1563 (12 * a1 + N) a4) 1564 (12 * a1 + N) a5) 1560 a1 (N + 1) 1563 y = (if y = 12 * a1 + N then a4 else d 1563 y) ∧ st (st (st (st (st E 1561 (12 * a1 + N) a2) 1562 (12 * a1 + N) a3) 1563 (12 * a1 + N) a4) 1564 (12 * a1 + N) a5) 1560 a1 (N + 1) 1564 y = (if y = 12 * a1 + N then a5 else d 1564 y) := fun y => by
                  rw [← v1 1561 y (by decide), ← v1 1562 y (by decide), ← v1 1563 y (by decide), ← v1 1564 y (by decide)]
                  by_cases z : y = 12 * a1 + N
                  · subst z
                    simp [st]
                  · simp [st, z]
                generalize st (st (st (st (st E 1561 (12 * a1 + N) a2) 1562 (12 * a1 + N) a3) 1563 (12 * a1 + N) a4) 1564 (12 * a1 + N) a5) 1560 a1 (N + 1) = G at *
                have u4 : ∀ x y, x < 1560 → G x y = d x y := fun x y u => by rw [u1 x y (by omega), v1 x y (by omega)]
                refine h4'.one q1.1 q1.2 ?_ (u4 _ _ (by omega)) (u4 _ _ (by omega)) (fun k => u4 _ _ (by omega)) (fun x k u v => ?_) (fun r k w1 w2 w3 w4 w5 w6 => ?_) (fun r k u v => u4 _ _ (by omega)) (fun r k u v w => ?_)
                · rw [hO]
                  unfold PX
                  have w1 : ∀ y, y ≠ 13 → G o y = d o y := fun y u => by rw [u1 _ _ (by omega), v3, if_neg u]
                  have w2 : G o 13 = N + 1 := by rw [u1 _ _ (by omega), v3, if_pos rfl]
                  have w4 : ∀ j, j = 1 ∨ j = 2 → G (o + j) = d (o + j) := fun j u => by rw [← v4 j u]; exact funext fun y => u1 _ _ (by omega)
                  simp only [w1 0 (by decide), w1 1 (by decide), w1 2 (by decide), w1 3 (by decide), w1 4 (by decide), w1 5 (by decide), w1 8 (by decide), w2, w4 1 (by decide), w4 2 (by decide), u4 1552 _ (by decide), u4 1553 _ (by decide), u4 1554 _ (by decide), u4 1555 _ (by decide), u4 1556 _ (by decide), u4 1557 _ (by decide), u4 1558 _ (by decide), u4 1559 _ (by decide), u2, if_true]
                  refine ⟨g1, g2, g3, trivial, by omega, fun k k0 k1 => ?_⟩
                  rw [u1 (o + 3) k (by omega), u1 (o + 4) k (by omega), u1 (o + 5) k (by omega), u1 (o + 6) k (by omega), (v5 k).1, (v5 k).2.1, (v5 k).2.2.1, (v5 k).2.2.2, (u3 _).1, (u3 _).2.1, (u3 _).2.2.1, (u3 _).2.2.2]
                  by_cases z : k = N
                  · subst z
                    simp only [if_true]
                    exact ⟨trivial, trivial, q3, trivial, trivial⟩
                  · have z2 : ¬ 12 * a1 + k = 12 * a1 + N := by omega
                    simp only [if_neg z, if_neg z2]
                    exact g6 k k0 (by omega)
                · rw [hO] at v
                  rw [u1 x k (by omega), v2 x k v]
                · by_cases z : r = 1560
                  · subst z; rw [u2, if_neg w6]
                  · exact u4 _ _ (by omega)
                · have : r = 1561 ∨ r = 1562 ∨ r = 1563 ∨ r = 1564 := by omega
                  have z : ¬ k = 12 * a1 + N := by omega
                  have uu := u3 k
                  simp only [if_neg z] at uu
                  rcases this with rfl | rfl | rfl | rfl
                  · exact uu.1
                  · exact uu.2.1
                  · exact uu.2.2.1
                  · exact uu.2.2.2
          · rw [if_pos (within_1.mpr q5), wp_some]
            dsimp only
            unfold fX11_fact
            rw [if_neg (fun q => j2.mp q q1), if_neg (fun q => in_1.mp q q2), if_neg (fun q => in_1.mp q q3), if_neg (fun q => isD_M.mp q q4)]
            by_cases q6 : -36524 ≤ a5 ∧ a5 ≤ 36524
            · rw [if_neg (fun q => isD_M.mp q q6), if_neg (by omega)]; exact bad _
            · rw [if_pos (isD_M.mpr q6)]; exact bad _
        · rw [if_pos (isD_X.mpr q4), wp_some]
          dsimp only
          unfold fX11_fact
          rw [if_neg (fun q => j2.mp q q1), if_neg (fun q => in_1.mp q q2), if_neg (fun q => in_1.mp q q3), if_pos (isD_M.mpr q4)]
          exact bad _
      · rw [if_pos (within_1.mpr q3), wp_some]
        dsimp only
        unfold fX11_fact
        rw [if_neg (fun q => j2.mp q q1), if_neg (fun q => in_1.mp q q2), if_pos (in_1.mpr q3)]
        exact bad _
    · rw [if_pos (within_1.mpr q2), wp_some]
      dsimp only
      unfold fX11_fact
      rw [if_neg (fun q => j2.mp q q1), if_pos (in_1.mpr q2)]
      exact bad _
  · rw [if_pos (j1.mpr q1), wp_some]
    dsimp only
    unfold fX11_fact
    rw [if_pos (j2.mpr q1)]
    exact bad _
