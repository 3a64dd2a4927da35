/-! LEVEL 3: die, fact, move -/
set_option maxRecDepth 100000
theorem mo_dyn {m : Dt} {x y : Int} (h : 1666 ≤ x) : mo m x y ≠ 1 := by
  unfold mo dym
  rw [if_neg (by omega), if_neg (by omega), if_neg (by omega)]
  split
  · decide
  · split
    · decide
    · split <;> decide
theorem Tk.end4 {m d G q : Dt} {h : Int → Int} {c : Int} (k : Tk m G q h c h c) (s : Sm m [1, 4] d G) (r : R4 m G) : Sm m [1, 4] d q ∧ R1 q ∧ R4 m q := ⟨s.trans k.s, k.r1, r.cg k.s⟩
theorem BX.in {h : Int → Int} {c : Int} {d : Dt} (b : BX h c d) : ∀ k, 0 ≤ k → k < 8 → in32 (h k) := fun k a e => (b.1 k a e).2
theorem op_die {m d : Dt} {a1 a2 : Int} (h1 : R1 d) (h4 : R4 m d) (hK : Kon d) (i1 : in32 a1) (i2 : in32 a2) : wp (fX0_die d a1 a2) (fun p => wp (fX11_die p.1 a1 a2) (fun q => q.2 = p.2 ∧ Sm m [1, 4] d q.1 ∧ R1 q.1 ∧ R4 m q.1)) := by
  have h4' := h4
  obtain ⟨a, b, c, -⟩ := h4
  have h1' := h1
  obtain ⟨h, n, bx, bm⟩ := h1
  have j1 := isP_X (p := a1) b
  have j2 := isP_M (d := d) (p := a1) (by rw [← a]; exact b)
  rw [← a] at j2
  have bad : ∀ r : Int, wp (some (d, r)) (fun q => q.2 = r ∧ Sm m [1, 4] d q.1 ∧ R1 q.1 ∧ R4 m q.1) := fun r => wp_some.mpr ⟨rfl, Sm.refl, h1', h4'⟩
  unfold fX0_die
  by_cases q1 : 0 ≤ a1 ∧ a1 < d 1 5
  · rw [if_neg (fun q => j1.mp q q1)]
    by_cases q2 : -36524 ≤ a2 ∧ a2 ≤ 36524
    · rw [if_neg (fun q => isD_X.mp q q2)]
      obtain ⟨c1, c2⟩ := c a1 q1.1 q1.2
      have x0 := c1.1
      have g := c2
      obtain ⟨⟨g1, g2, g3, g4, g5, g6⟩, g7, g8, g9⟩ := c2
      generalize hO : d 9 a1 = o at *
      rw [wp_ck, wp_lv, wp_ck]
      refine ⟨by omega, by omega, ?_⟩
      by_cases q3 : d o 3 ≤ a2
      · rw [if_pos q3, wp_lv, wp_ck]
        refine ⟨by omega, ?_⟩
        by_cases q4 : d o 5 = 0
        · rw [if_pos q4, wp_lv, wp_ck, wp_bd]
          refine ⟨by omega, ?_⟩
          unfold fX13_die
          simp only [wp_ck, wp_sd, wp_lv, wp_lm, wp_some, wp_b1, wp_bd, wp_b2, wp_b3, wp_up, wp_map]
          have k0 : Tk m (st (st d o 4 a2) o 5 1) (st (st d o 4 a2) o 5 1) h n h n := ((Tk.ini bx bm hK).sto 4 (c1.md0 _)).sto 4 (c1.md0 _)
          refine k0.wX.mono fun d1 k1 => ?_
          have e1 : ∀ x k, mo m x k = 4 → ¬ (x = o) → d1 x k = d x k := fun x k u v => by rw [k1.at 4 x k u, st_na v, st_na v]
          unfold fX11_die
          have j3 := isP_M (d := d1) (p := a1) (by rw [e1 1545 10 rfl (by omega), ← a]; exact b)
          rw [e1 1545 10 rfl (by omega), ← a] at j3
          rw [if_neg (fun q => j3.mp q q1), if_neg (fun q => isD_M.mp q q2), wp_ck, e1 1552 a1 rfl (by omega), e1 1556 a1 rfl (by omega), if_pos (by omega), if_pos (by omega)]
          refine ⟨by omega, ?_⟩
          simp only [wp_ck, wp_sd, wp_lv, wp_lm, wp_some, wp_b1, wp_bd, wp_b2, wp_b3, wp_up, wp_map]
          have k2 : Tk m (st (st (st d o 4 a2) o 5 1) 1556 a1 a2) (st d1 1556 a1 a2) _ _ _ _ := k1.sto 4
          refine (k2.wM bx.in ⟨by decide, by decide⟩ i1 i2 ⟨by decide, by decide⟩ ⟨by decide, by decide⟩).mono fun d2 k3 => ?_
          refine ⟨trivial, k3.end4 ?_ ?_⟩
          · exact (((Sm.sto 4 (c1.md0 _)).trans (Sm.sto 4 (c1.md0 _)) (T := [4])).trans (Sm.sto 4) (T := [4])).up
          · have v1 : ∀ x y, x ≠ 1556 → ¬ (x = o ∧ (y = 4 ∨ y = 5)) → st (st (st d o 4 a2) o 5 1) 1556 a1 a2 x y = d x y := fun x y u v => by
              unfold st
              rw [if_neg (by omega), if_neg (by omega), if_neg (by omega)]
            have v2 : st (st (st d o 4 a2) o 5 1) 1556 a1 a2 o 4 = a2 := by rw [st_na (by omega), st_nk (by decide), st_eq]
            have v3 : st (st (st d o 4 a2) o 5 1) 1556 a1 a2 o 5 = 1 := by rw [st_na (by omega), st_eq]
            have v4 : st (st (st d o 4 a2) o 5 1) 1556 a1 a2 1556 a1 = a2 := st_eq _ _ _ _
            have v5 : ∀ k, k ≠ a1 → st (st (st d o 4 a2) o 5 1) 1556 a1 a2 1556 k = d 1556 k := fun k u => by rw [st_nk u, st_na (by omega), st_na (by omega)]
            generalize st (st (st d o 4 a2) o 5 1) 1556 a1 a2 = G at *
            refine h4'.one q1.1 q1.2 ?_ (v1 _ _ (by omega) (by omega)) (v1 _ _ (by omega) (by omega)) (fun k => v1 _ _ (by omega) (by omega)) (fun x k u v => v1 _ _ (by omega) (by omega)) (fun r k u1 u2 u3 u4 u5 u6 => ?_) (fun r k u v => v1 _ _ (by omega) (by omega)) (fun r k u v w => v1 _ _ (by omega) (by omega))
            · rw [hO]
              unfold PX
              have w1 : ∀ y, y ≠ 4 → y ≠ 5 → G o y = d o y := fun y u v => v1 _ _ (by omega) (by omega)
              have w2 : ∀ j y, 1 ≤ j → G (o + j) y = d (o + j) y := fun j y u => v1 _ _ (by omega) (by omega)
              have w3 : ∀ x y, 1545 ≤ x → x < 1600 → x ≠ 1556 → G x y = d x y := fun x y u v w => v1 _ _ w (by omega)
              have w4 : ∀ j, 1 ≤ j → G (o + j) = d (o + j) := fun j u => funext fun y => w2 j y u
              rw [v2, v3, v4]
              simp only [w1 0 (by decide) (by decide), w1 1 (by decide) (by decide), w1 2 (by decide) (by decide), w1 3 (by decide) (by decide), w1 8 (by decide) (by decide), w1 13 (by decide) (by decide), w4 1 (by decide), w4 2 (by decide), w4 3 (by decide), w4 4 (by decide), w4 5 (by decide), w4 6 (by decide), w3 1552 _ (by decide) (by decide) (by decide), w3 1553 _ (by decide) (by decide) (by decide), w3 1554 _ (by decide) (by decide) (by decide), w3 1555 _ (by decide) (by decide) (by decide), w3 1557 _ (by decide) (by decide) (by decide), w3 1558 _ (by decide) (by decide) (by decide), w3 1559 _ (by decide) (by decide) (by decide), w3 1560 _ (by decide) (by decide) (by decide), w3 1561 _ (by decide) (by decide) (by decide), w3 1562 _ (by decide) (by decide) (by decide), w3 1563 _ (by decide) (by decide) (by decide), w3 1564 _ (by decide) (by decide) (by decide)]
              exact ⟨⟨g1, g2, g3, g4, g5, g6⟩, Or.inr ⟨by decide, trivial, q2⟩, g8, g9⟩
            · by_cases z : r = 1556
              · subst z; exact v5 k u6
              · exact v1 _ _ z (by omega)
        · rw [if_neg q4, wp_some]
          dsimp only
          unfold fX11_die
          rw [if_neg (fun q => j2.mp q q1), if_neg (fun q => isD_M.mp q q2), wp_ck, if_pos (by omega), if_neg (by omega)]
          exact ⟨by omega, bad _⟩
      · rw [if_neg q3, wp_some]
        dsimp only
        unfold fX11_die
        rw [if_neg (fun q => j2.mp q q1), if_neg (fun q => isD_M.mp q q2), wp_ck, if_neg (by omega)]
        exact ⟨by omega, bad _⟩
    · rw [if_pos (isD_X.mpr q2), wp_some]
      dsimp only
      unfold fX11_die
      rw [if_neg (fun q => j2.mp q q1), if_pos (isD_M.mpr q2)]
      exact bad _
  · rw [if_pos (j1.mpr q1), wp_some]
    dsimp only
    unfold fX11_die
    rw [if_pos (j2.mpr q1)]
    exact bad _
