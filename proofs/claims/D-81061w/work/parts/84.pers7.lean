/-! LEVEL 3: move -/
set_option maxRecDepth 100000
theorem op_move {m d : Dt} {a1 a2 a3 : Int} (h1 : R1 d) (h4 : R4 m d) (hK : Kon d) (i1 : in32 a1) (i2 : in32 a2) (i3 : in32 a3) : wp (fX0_move d a1 a2 a3) (fun p => wp (fX11_move p.1 a1 a2 a3) (fun q => q.2 = p.2 ∧ Sm m [1, 4] d q.1 ∧ R1 q.1 ∧ R4 m q.1)) := by
  have h4' := h4
  obtain ⟨a, b, c, -⟩ := h4
  have h1' := h1
  obtain ⟨h, n, bx, bm⟩ := h1
  have j1 := isP_X (p := a1) b
  have j2 := isP_M (d := d) (p := a1) (by rw [← a]; exact b)
  rw [← a] at j2
  have bad : ∀ r : Int, wp (some (d, r)) (fun q => q.2 = r ∧ Sm m [1, 4] d q.1 ∧ R1 q.1 ∧ R4 m q.1) := fun r => wp_some.mpr ⟨rfl, Sm.refl, h1', h4'⟩
  unfold fX0_move
  by_cases q1 : 0 ≤ a1 ∧ a1 < d 1 5
  · rw [if_neg (fun q => j1.mp q q1)]
    by_cases q2 : -36524 ≤ a2 ∧ a2 ≤ 36524
    · rw [if_neg (fun q => isD_X.mp q q2)]
      by_cases q3 : -1 ≤ a3 ∧ a3 ≤ 999
      · rw [if_neg (within_0.mpr q3)]
        obtain ⟨c1, c2⟩ := c a1 q1.1 q1.2
        have x0 := c1.1
        obtain ⟨g1, g2, ⟨g3, g4, g5⟩, g6⟩ := c2
        generalize hO : d 9 a1 = o at *
        rw [wp_ck, wp_lv, wp_ck]
        refine ⟨by omega, by omega, ?_⟩
        by_cases q7 : d o 8 = 10
        · rw [if_pos q7, wp_some]
          dsimp only
          unfold fX11_move
          rw [if_neg (fun q => j2.mp q q1), if_neg (fun q => isD_M.mp q q2), if_neg (fun q => in_1.mp q q3), wp_ck, if_pos (by omega)]
          exact ⟨by omega, bad _⟩
        · rw [if_neg q7, wp_bd]
          refine (Tk.ini (m := m) bx bm hK).wX.mono fun d1 k1 => ?_
          have e1 : ∀ j y, 0 ≤ j → j ≤ 6 → d1 (o + j) y = d (o + j) y := fun j y u v => k1.at 4 (o + j) y (c1.md u v _)
          have e0 : ∀ y, d1 o y = d o y := fun y => k1.at 4 o y (c1.md0 _)
          have eD : ∀ x y, 1666 ≤ x → d1 x y = d x y := fun x y u => k1.s x y (fun q => mo_dyn u (List.mem_singleton.mp q))
          rw [wp_lv, k1.at 4 9 a1, hO, wp_ck, wp_b2]
          refine ⟨by omega, ?_⟩
          refine (move_X (by rw [e0]; omega)).mono fun ⟨D, v⟩ hq => ?_
          obtain ⟨m1, m2, m3, i, m4, m5⟩ := hq
          dsimp only at m1 m2 m3 m5
          rw [e0] at m1 m3 m5
          rw [show d1 (o + 1) = d (o + 1) from funext fun y => e1 1 y (by decide) (by decide)] at m4 m5
          rw [show d1 (o + 2) = d (o + 2) from funext fun y => e1 2 y (by decide) (by decide)] at m5
          have sD : Sm m [4] d1 D := fun x y hx => m2 x y (fun q => hx (by rw [q.1, c1.md0]; decide)) (fun q => hx (by rw [q, c1.md (by decide) (by decide)]; decide)) (fun q => hx (by rw [q, c1.md (by decide) (by decide)]; decide))
          have kD : Tk m D D (shH h 4 a1 a2 a3 0) (w32 (n + 1)) h n := ⟨Sm.refl, k1.x.cg sD, k1.r.cg sD, k1.k.cg sD⟩
          have sA : Sm m [1, 4] d D := k1.s.trans sD
          have f1 : ∀ x k, mo m x k = 4 → x < 1666 → D x k = d x k := fun x k u v => by rw [m2 x k (by omega) (by omega) (by omega), k1.at 4 x k u]
          rw [wp_some]
          dsimp only
          subst m1
          clear sD
          unfold fX11_move
          have j3 := isP_M (d := D) (p := a1) (by rw [f1 1545 10 rfl (by omega), ← a]; exact b)
          rw [f1 1545 10 rfl (by omega), ← a] at j3
          rw [if_neg (fun q => j3.mp q q1), if_neg (fun q => isD_M.mp q q2), if_neg (fun q => in_1.mp q q3), wp_ck, f1 1557 a1 rfl (by omega), ← g3, if_neg q7]
          refine ⟨by omega, ?_⟩
          have fR : D 1557 a1 = d o 8 := by rw [f1 1557 a1 rfl (by omega), ← g3]
          generalize hN : d o 8 = N at *
          have f2 : ∀ k v, st D 1558 k v 1557 a1 = N := fun k v => by rw [st_na (by decide), fR]
          have f3 : ∀ k v k' v', st (st D 1558 k v) 1559 k' v' 1557 a1 = N := fun k v k' v' => by rw [st_na (by decide), f2]
          simp only [wp_ck, wp_sd, wp_lv, wp_lm, wp_some, wp_b1, wp_bd, wp_b2, wp_b3, wp_up, wp_map, f2, f3, w32_of (show (-2147483648 : Int) ≤ 10 * a1 by omega) (show 10 * a1 ≤ (2147483647 : Int) by omega), w32_of (show (-2147483648 : Int) ≤ 10 * a1 + N by omega) (show 10 * a1 + N ≤ (2147483647 : Int) by omega), w32_of (show (-2147483648 : Int) ≤ N + 1 by omega) (show N + 1 ≤ (2147483647 : Int) by omega)]
          refine ⟨by omega, by omega, ?_⟩
          have k3 := ((kD.sto (a := 1558) (k := 10 * a1 + N) (v := a2) 4).sto (a := 1559) (k := 10 * a1 + N) (v := a3) 4).sto (a := 1557) (k := a1) (v := N + 1) 4
          refine (k3.wM bx.in ⟨by decide, by decide⟩ i1 i2 i3 ⟨by decide, by decide⟩).mono fun d2 k4 => ?_
          have s3 : Sm m [4] D (st (st (st D 1558 (10 * a1 + N) a2) 1559 (10 * a1 + N) a3) 1557 a1 (N + 1)) := ((Sm.sto 4).trans (Sm.sto 4) (T := [4])).trans (Sm.sto 4)
          refine ⟨?_, k4.end4 (sA.trans s3) ?_⟩
          · rw [k4.at 4 1557 a1, st_eq]
          · have u1 : ∀ x y, x ≠ 1557 → x ≠ 1558 → x ≠ 1559 → st (st (st D 1558 (10 * a1 + N) a2) 1559 (10 * a1 + N) a3) 1557 a1 (N + 1) x y = D x y := fun x y u v w => by
              rw [st_na u, st_na w, st_na v]
            have u2 : ∀ y, st (st (st D 1558 (10 * a1 + N) a2) 1559 (10 * a1 + N) a3) 1557 a1 (N + 1) 1557 y = if y = a1 then N + 1 else d 1557 y := fun y => by
              by_cases z : y = a1
              · subst z; rw [st_eq, if_pos rfl]
              · rw [st_nk z, st_na (by decide), st_na (by decide), if_neg z, f1 _ _ rfl (by decide)]
            have u3 : ∀ y, st (st (st D 1558 (10 * a1 + N) a2) 1559 (10 * a1 + N) a3) 1557 a1 (N + 1) 1558 y = (if y = 10 * a1 + N then a2 else d 1558 y) ∧ st (st (st D 1558 (10 * a1 + N) a2) 1559 (10 * a1 + N) a3) 1557 a1 (N + 1) 1559 y = (if y = 10 * a1 + N then a3 else d 1559 y) := fun y => by
              rw [← f1 1558 y rfl (by decide), ← f1 1559 y rfl (by decide)]
              by_cases z : y = 10 * a1 + N
              · subst z
                simp [st]
              · simp [st, z]
            generalize st (st (st D 1558 (10 * a1 + N) a2) 1559 (10 * a1 + N) a3) 1557 a1 (N + 1) = G at *
            have u4 : ∀ x y, mo m x y = 4 → x < 1666 → x ≠ 1557 → x ≠ 1558 → x ≠ 1559 → G x y = d x y := fun x y u v w1 w2 w3 => by rw [u1 x y w1 w2 w3, f1 x y u v]
            refine h4'.one q1.1 q1.2 ?_ (u4 _ _ rfl (by decide) (by decide) (by decide) (by decide)) (u4 _ _ rfl (by decide) (by decide) (by decide) (by decide)) (fun k => u4 _ _ rfl (by decide) (by decide) (by decide) (by decide)) (fun x k u v => ?_) (fun r k w1 w2 w3 w4 w5 w6 => ?_) (fun r k u v => ?_) (fun r k u v w => u4 _ _ (mo_4 (by omega) _) (by omega) (by omega) (by omega) (by omega))
            · rw [hO]
              unfold PX
              have w1 : ∀ y, y ≠ 8 → G o y = d o y := fun y u => by rw [u1 _ _ (by omega) (by omega) (by omega), m2 _ _ (by omega) (by omega) (by omega), e0]
              have w2 : G o 8 = N + 1 := by rw [u1 _ _ (by omega) (by omega) (by omega), m3]
              have w4 : ∀ j y, 3 ≤ j → j ≤ 6 → G (o + j) y = d (o + j) y := fun j y u v => by rw [u1 _ _ (by omega) (by omega) (by omega), m2 _ _ (by omega) (by omega) (by omega), e1 j y (by omega) v]
              have w5 : ∀ j, j = 1 ∨ j = 2 → G (o + j) = D (o + j) := fun j u => funext fun y => u1 _ _ (by omega) (by omega) (by omega)
              simp only [w1 0 (by decide), w1 1 (by decide), w1 2 (by decide), w1 3 (by decide), w1 4 (by decide), w1 5 (by decide), w1 13 (by decide), w2, w5 1 (by decide), w5 2 (by decide), w4 3 _ (by decide) (by decide), w4 4 _ (by decide) (by decide), w4 5 _ (by decide) (by decide), w4 6 _ (by decide) (by decide), u4 1552 _ rfl (by decide) (by decide) (by decide) (by decide), u4 1553 _ rfl (by decide) (by decide) (by decide) (by decide), u4 1554 _ rfl (by decide) (by decide) (by decide) (by decide), u4 1555 _ rfl (by decide) (by decide) (by decide) (by decide), u4 1556 _ rfl (by decide) (by decide) (by decide) (by decide), u4 1560 _ rfl (by decide) (by decide) (by decide) (by decide), u4 1561 _ rfl (by decide) (by decide) (by decide) (by decide), u4 1562 _ rfl (by decide) (by decide) (by decide) (by decide), u4 1563 _ rfl (by decide) (by decide) (by decide) (by decide), u4 1564 _ rfl (by decide) (by decide) (by decide) (by decide), u2, if_true]
              refine ⟨g1, g2, ⟨trivial, by omega, g5.ins g4.1 m5 ⟨⟨g4.1, Int.le_refl _⟩, fun k k0 k1 => ?_, ?_, fun k k0 k1 => absurd k1 (by omega), fun k k0 k1 => absurd k1 (by omega)⟩ m4 q3 q2⟩, g6⟩
              · have z : ¬ 10 * a1 + k = 10 * a1 + N := by omega
                show G 1558 (10 * a1 + k) = d 1558 (10 * a1 + k) ∧ G 1559 (10 * a1 + k) = d 1559 (10 * a1 + k)
                rw [(u3 _).1, (u3 _).2, if_neg z, if_neg z]
                exact ⟨rfl, rfl⟩
              · show G 1558 (10 * a1 + N) = a2 ∧ G 1559 (10 * a1 + N) = a3
                rw [(u3 _).1, (u3 _).2, if_pos rfl, if_pos rfl]
                exact ⟨rfl, rfl⟩
            · rw [hO] at v
              rw [u1 x k (by omega) (by omega) (by omega), m2 x k (by omega) (by omega) (by omega), eD x k u]
            · by_cases z : r = 1557
              · subst z; rw [u2, if_neg w6]
              · exact u4 _ _ (mo_4 (by omega) _) (by omega) (by omega) (by omega) (by omega)
            · have z : ¬ k = 10 * a1 + N := by omega
              rcases u with rfl | rfl
              · rw [(u3 _).1, if_neg z]
              · rw [(u3 _).2, if_neg z]
      · rw [if_pos (within_1.mpr q3), wp_some]
        dsimp only
        unfold fX11_move
        rw [if_neg (fun q => j2.mp q q1), if_neg (fun q => isD_M.mp q q2), if_pos (in_1.mpr q3)]
        exact bad _
    · rw [if_pos (isD_X.mpr q2), wp_some]
      dsimp only
      unfold fX11_move
      rw [if_neg (fun q => j2.mp q q1), if_pos (isD_M.mpr q2)]
      exact bad _
  · rw [if_pos (j1.mpr q1), wp_some]
    dsimp only
    unfold fX11_move
    rw [if_pos (j2.mpr q1)]
    exact bad _
