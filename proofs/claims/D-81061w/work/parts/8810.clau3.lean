/-! LEVEL 3: clauses of a law on both sides -/
set_option maxRecDepth 100000
set_option maxHeartbeats 4000000
section CLD
variable {t : Int → Int} {n : Int} {N : Nat} {L A : Int} {x y : Dt} {j : Nat}
/-- what a clause leaves -/
def ClQ (t : Int → Int) (n : Int) (N : Nat) (L A : Int) (x y : Dt) (j : Nat) (_ : Int) (x' y' : Dt) : Prop := ∃ j', j < j' ∧ LW t n N L A (-1) x' y' j' ∧ FLX L x x' ∧ FLM y y'
theorem cp_kon {x1 : Dt} (h : LW t n N L A (-1) x y j) (hL : 15 ≤ L) (hA : 0 ≤ A ∧ A ≤ 24) (s1 : SS t n N x y x1 (nxb y) (j + 1)) : CP (fX2_contest x1 (sp t n j)) (fX11_takeClause_47 (nxb y) (sp t n j) 7) (EL L x y) (ClQ t n N L A x y j) := by
  have h1 := h.ss hL s1 (by omega)
  have h1' := h1
  obtain ⟨hR1, hB1, hC1⟩ := h1
  obtain ⟨⟨c1a, c1b, c1c⟩, c2, c3, c4, c5, c6, c7, c8, c9⟩ := hB1
  have hrr := h.1.sp
  have hjN : ((j : Int) + 1) ≤ 4001 := by
    have := hR1.2.1.2.2
    have := hR1.2.1.1.2.2.2.2.2.2
    omega
  -- behind the note
  obtain ⟨x2, y2, e1, e2, s2, hbl⟩ : ∃ x2 y2, fX2_contest x1 (sp t n j) = fX2_contest_18 x2 (sp t n j) 1 ∧ fX11_takeClause_47 (nxb y) (sp t n j) 7 = fX11_takeClause_97 y2 7 ∧ SS t n N x1 (nxb y) x2 y2 (j + 1) ∧ (x2 10 9 = -1 → x1 L 14 < 6) := by
    unfold fX2_contest fX11_takeClause_47 fX11_takeClause_74 fX11_takeClause_92
    rw [if_pos (by decide), if_pos (by decide), if_pos rfl, lv_e, c1a, ck_pos (by omega), blame_M, bd_s]
    by_cases q : 6 ≤ x1 L 14
    · rw [if_pos q, if_neg (by omega)]
      have nb := hR1.nb hrr.2.1
      refine ⟨_, _, ?_, rfl, nb.1, fun z => absurd z nb.2.1⟩
      unfold fX2_contest_18
      rw [note_X, note_X, nt_1]
    · rw [if_neg q, if_pos (by omega)]
      exact ⟨x1, nxb y, rfl, rfl, SS.refl hR1, fun _ => by omega⟩
  rw [e1, e2]
  have h2 := h1'.ss hL s2 (Nat.le_refl _)
  have S2 := s1.trans s2
  obtain ⟨hR2, hB2, hC2⟩ := h2
  obtain ⟨⟨d1a, d1b, d1c⟩, d2, d3, d4, d5, d6, d7, d8, d9⟩ := hB2
  unfold fX11_takeClause_97
  rw [sd_e, if_neg (by decide), if_neg (by decide), if_neg (by decide), if_neg (by decide), if_neg (by decide), if_neg (by decide), if_neg (by decide)]
  refine CP.tail ?_
  have ey : ∀ u v, ¬ (u = 1545 ∧ v = 50) → st y2 1545 50 (bOr (y2 1545 50) (bShl 1 7)) u v = y2 u v := fun u v z => by unfold st; rw [if_neg z]
  have ey50 : st y2 1545 50 (bOr (y2 1545 50) (bShl 1 7)) 1545 50 = bOr (y2 1545 50) (bShl 1 7) := st_eq _ _ _ _
  generalize st y2 1545 50 (bOr (y2 1545 50) (bShl 1 7)) = y3 at *
  have hR3 : RL t n N x2 y3 (j + 1) := hR2.cg2 (fun _ _ _ => rfl) (fun p q u => ey _ _ (by omega))
  have d7' := d7
  generalize hC : x2 L 14 = C at *
  have hcc : 0 ≤ (if C ≤ 5 then C else 5) ∧ (if C ≤ 5 then C else 5) ≤ 5 := by split <;> omega
  refine (cp_contest (C := C) (A := A) hR3 hL d1a hA ⟨d1b, by rw [ey _ _ (by omega)]; exact d1c⟩ ⟨hC, by rw [ey _ _ (by omega)]; exact d7.1.symm, d7.2.1, by omega⟩ (by rw [ey _ _ (by omega)]; exact d3) rfl rfl).mono (fun x' y' e => ?_) (fun _ x' y' q => ?_)
  · exact EL.of S2.1.fl (fun p q u1 u2 u3 u4 u5 u6 u7 => by rw [ey _ _ (by omega)]; exact S2.2.1 p q (by omega)) e
  · obtain ⟨j', k1, ⟨g1, g2, g3, g4, g5, g6⟩, k3, k4, k5⟩ := q
    generalize hcq : (if C ≤ 5 then C else 5) = cc at *
    refine ⟨j', by omega, ⟨g1, ⟨⟨by rw [g3 _ _ (by omega) (by omega) (by omega) (by omega)]; exact d1a, by rw [g3 _ _ (by omega) (by omega) (by omega) (by omega)]; exact d1b, by rw [g4 _ _ (by omega) (by omega) (by omega), ey _ _ (by omega)]; exact d1c⟩, ⟨by rw [g3 _ _ (by omega) (by omega) (by omega) (by omega)]; exact d2.1, ?_⟩, g6, by rw [g4 _ _ (by omega) (by omega) (by omega), ey50]; exact (tb_in d4 (w := 7) (by decide)).1, fun v v0 v1 => ?_, fun _ => ?_, by rw [k3, k4]; omega, by rw [g3 _ _ (by omega) (by omega) (by omega) (by omega), g4 _ _ (by omega) (by omega) (by omega), ey _ _ (by omega)]; exact d8, by rw [g3 _ _ (by omega) (by omega) (by omega) (by omega), g4 _ _ (by omega) (by omega) (by omega), ey _ _ (by omega)]; exact d9⟩, fun z => ?_⟩, S2.1.fl.trans (fun p q u1 u2 u3 u4 u5 => g3 _ _ (by omega) u2 (by omega) (by omega)), fun p q u1 u2 u3 u4 u5 u6 u7 => ?_⟩
    · rw [g3 _ _ (by omega) (by omega) (by omega) (by omega), g4 _ _ (by omega) (by omega) (by omega), ey _ _ (by omega)]
      rcases d2.2 with r | r
      · exact Or.inl r
      · exact Or.inr ⟨r.1, r.2.1, (g5 r.2.2).1⟩
    · rw [g3 _ _ (by omega) (by omega) (by omega) (by omega), g4 _ _ (by omega) (by omega) (by omega), ey50, tb_or d4 (by decide) (by omega), if_neg (by omega)]
      exact d5 v v0 v1
    · rw [g4 _ _ (by omega) (by omega) (by omega), ey50, tb_or d4 (by decide) (by decide), if_pos rfl, k3, if_pos (by omega)]
    · have z2 := wm9 g5 z
      obtain ⟨l1, l2, l3, l4, l5, l6, l7⟩ := hC2 z2
      have c6' : C < 6 := by
        have := hbl z2
        rw [← s2.1 L 14 (by omega) (by omega), hC] at this
        exact this
      have ccC : cc = C := by rw [← hcq, if_pos (by omega)]
      subst ccC
      have gx : ∀ p q, p ≠ 10 → p ≠ 11 → ¬ (p = L ∧ q = 14) → p ≠ L + 13 + cc → x' p q = x2 p q := fun p q u1 u2 u3 u4 => g3 _ _ (by omega) u2 u3 (by omega)
      have gy : ∀ p q, p ≠ 1545 → ¬ (p = 1576 ∧ q = 9) → ¬ (p = 1577 ∧ 8 * cc ≤ q ∧ q ≤ 8 * cc + 7) → y' p q = y2 p q := fun p q u1 u2 u3 => by rw [g4 _ _ (by omega) u2 u3, ey _ _ (by omega)]
      have x1013 : x' 10 13 = x2 10 13 := g3 _ _ (by omega) (by omega) (by omega) (by omega)
      refine ⟨by rw [k3]; omega, by rw [gx L 3 (by omega) (by omega) (by omega) (by omega), gx L 4 (by omega) (by omega) (by omega) (by omega), gx L 5 (by omega) (by omega) (by omega) (by omega), gx 12 4 (by omega) (by omega) (by omega) (by omega), gy _ _ (by omega) (by omega) (by omega), gy _ _ (by omega) (by omega) (by omega), gy _ _ (by omega) (by omega) (by omega)]; exact l2, fun _ z0 => ?_, fun c k0 k1 => ?_, fun k k0 k1 => ?_, fun _ => ?_, fun _ => ?_⟩
      · rw [gx _ _ (by omega) (by omega) (by omega) (by omega)] at z0
        exact (l3 (by decide) z0).cg (fun q _ _ => gx _ _ (by omega) (by omega) (by omega) (by omega)) (fun q _ _ => gy _ _ (by omega) (by omega) (by omega))
      · rw [k3] at k1
        by_cases q : c = cc
        · subst q; exact k5 z
        · exact (l4 c k0 (by omega)).cg (fun q _ _ => gx _ _ (by omega) (by omega) (by omega) (by omega)) (fun q _ _ => gy _ _ (by omega) (by omega) (by omega))
      · rw [x1013] at k1
        exact (l5 k k0 k1).cg (fun p _ _ => gx _ _ (by omega) (by omega) (by omega) (by omega)) (fun p _ _ => gy _ _ (by omega) (by omega) (by omega))
      · have := l6 (by decide)
        rw [gx (L + 2) 3 (by omega) (by omega) (by omega) (by omega), x1013]
        exact ⟨this.1.cg (fun q _ _ => gx _ _ (by omega) (by omega) (by omega) (by omega)) (fun q _ _ => gx _ _ (by omega) (by omega) (by omega) (by omega)) (fun q _ _ => gx _ _ (by omega) (by omega) (by omega) (by omega)) (gy _ _ (by omega) (by omega) (by omega)) (fun q _ _ => gy _ _ (by omega) (by omega) (by omega)), this.2⟩
      · have := l7 (by decide)
        rw [gx (L + 4) 3 (by omega) (by omega) (by omega) (by omega), x1013]
        exact ⟨this.1.cg (fun q _ _ => gx _ _ (by omega) (by omega) (by omega) (by omega)) (fun q _ _ => gx _ _ (by omega) (by omega) (by omega) (by omega)) (fun q _ _ => gx _ _ (by omega) (by omega) (by omega) (by omega)) (gy _ _ (by omega) (by omega) (by omega)) (fun q _ _ => gy _ _ (by omega) (by omega) (by omega)), this.2⟩
    · rw [g4 _ _ (by omega) (by omega) (by omega), ey _ _ (by omega)]; exact S2.2.1 p q (by omega)
theorem EC.el {c W f : Int} {a b u v : Dt} (h : EC c L W f a b u v) (hL : 15 ≤ L) (hc : L + 2 ≤ c ∧ c ≤ L + 4) (hW : 0 ≤ W ∧ W ≤ 1) (hf : 0 ≤ f) : EL L a b u v := ⟨fun p q u1 u2 u3 u4 u5 => h.1 p q (by omega) u2 u4 (by omega) (by omega) (by omega), fun p q u1 u2 u3 u4 u5 u6 u7 => h.2.1 p q (by omega) (by omega) (by omega) (by omega) (by omega), h.2.2⟩
theorem cp_clause (h : LW t n N L A (-1) x y j) (hL : 15 ≤ L) (hA : 0 ≤ A ∧ A ≤ 24) : CP (fX2_clause x) (fX11_takeClause y) (EL L x y) (ClQ t n N L A x y j) := by
  have hR := h.1
  have hr := hR.sp
  have hl : fX11_takeClause y = if 0 ≤ wd t n j ∧ wd t n j < 0 + 8 then fX11_takeClause_47 (nxb y) (sp t n j) (wd t n j - 0) else fX11_takeClause_47 y (sp t n j) (-1) := by
    unfold fX11_takeClause fX11_takeClause_14
    rw [lv_e, hr.2.2.2.1, ck_pos (by omega), lv_e, hr.2.2.2.2]
    exact mw_loop hR.2.1 (f := fX11_takeClause_14f (sp t n j)) (R := fun d v => fX11_takeClause_47 d (sp t n j) v) (c := fun k => 8 ≤ k) (fun k => by omega) (by decide) (by decide) (fun k k0 k1 => by rw [clName k0 k1]; omega) (fun d v k => rfl)
  rw [hl]
  unfold fX2_clause
  rw [lv_e, hr.1, hR.1.oneOf (by decide) (by decide)]
  by_cases q : 0 ≤ wd t n j ∧ wd t n j ≤ 7
  · rw [if_pos q, if_pos (by omega), Int.sub_zero]
    show CP (bx (bd _ _) th _) _ _ _
    rw [bx_bd]
    refine CP.tk (hR.take (hR.lt_w (by omega) rfl)) fun x1 s1 => ?_
    rw [bx_s]
    generalize hw : wd t n j = w at *
    by_cases q7 : w = 7
    · subst q7
      rw [if_pos rfl]
      have hk := cp_kon h hL hA s1
      unfold CP at hk ⊢
      rw [wp_bx]
      refine hk.mono fun u hu => ?_
      obtain ⟨v, ev, hv⟩ := hu
      rcases hv with ⟨z1, z2, z3⟩ | ⟨z0, z1, z2, z3⟩
      · rw [z1]; exact wp_some.mpr ⟨v, ev, Or.inl ⟨rfl, z2, z3⟩⟩
      · rw [z1]; exact wp_some.mpr ⟨v, ev, Or.inr ⟨0, rfl, z2, z3⟩⟩
    · rw [if_neg q7, ck_pos (by omega)]
      obtain ⟨x2, y2, e1, hW, wm, fx, fm, h4, e2, e50, fx2⟩ := h.told hL (w := w) (by omega) s1
      have eX : (if x1 12 w = 0 then fX2_clause_40 x1 (sp t n j) w 1 else fX2_clause_40 x1 (sp t n j) w 0) = fX2_clause_40 x1 (sp t n j) w (if x1 12 w = 0 then 1 else 0) := by split <;> rfl
      rw [eX, e2]
      unfold fX2_clause_40 fX11_takeClause_97
      rw [e1, bd_s, ck_pos (by omega), sd_e, sd_e, e50]
      have x312 : st x2 12 w (1 % 2) 12 w = 1 := st_eq _ _ _ _
      generalize st x2 12 w (1 % 2) = x3 at *
      generalize st y2 1545 50 (bOr (y 1545 50) (bShl 1 w)) = y3 at *
      have x310 : x3 10 10 = L := hW.2.1.1.1
      have j1 : (1 : Nat) ≤ j + 1 := by omega
      by_cases w0 : w = 0
      · subst w0
        rw [if_pos rfl, if_pos rfl]
        refine CP.tail ?_
        have hd := cp_days hW.1 hL x310
        unfold CP at hd ⊢
        rw [wp_bx]
        refine hd.mono fun u hu => ?_
        obtain ⟨v, ev, hv⟩ := hu
        rcases hv with ⟨z1, z2, z3⟩ | ⟨z0, z1, z2, j', v', k1, k2⟩
        · rw [z1]; exact wp_some.mpr ⟨v, ev, Or.inl ⟨rfl, z2, EL.of fx fm z3⟩⟩
        · have hall : u.1 10 9 ≠ -1 ∨ PD L 4 v' u.1 v.1 := by
            rcases k2.2.2.2.2.2 with r | r
            · exact Or.inl r.1
            · exact Or.inr r
          have g := hW.dys hL k2 hall
          rw [z1]
          exact wp_some.mpr ⟨v, ev, Or.inr ⟨0, rfl, z2, j', by omega, g.1, fx.trans g.2.1, fm.trans g.2.2⟩⟩
      · rw [if_neg w0, if_neg w0]
        by_cases w1 : w = 1
        · subst w1
          rw [if_pos rfl, if_pos rfl, lv_e, x310, ck_pos (by omega), sd_e, sd_e]
          have g := hW.num (x' := st x3 L 1 1) (y' := st y3 1576 4 1) hL (by decide) (fun p q z => by unfold st; rw [if_neg (by omega)]) (fun p q z => by unfold st; rw [if_neg (by omega)]) (by rw [st_eq, st_eq]; decide) (by rw [st_nk (by decide), st_nk (by decide)]; exact hW.2.1.2.2.2.2.2.2.2.2) (fun z => by simp (disch := omega) only [w32_o, w64_o, w8_o, st_eq, st_na, st_nk, ck_pos, wp_sd, wp_lv, wp_lm, wp_some, wp_b1, wp_bd, wp_b2, wp_b3, wp_up, wp_map]; exact (hW.2.2 z).2.1)
          exact CP.ret ⟨j + 1, by omega, g.1, fx.trans g.2.1, fm.trans g.2.2⟩
        · rw [if_neg w1, if_neg w1]
          by_cases w2 : w = 2
          · subst w2
            rw [if_pos rfl, if_pos rfl, lv_e, x310, ck_pos (by omega)]
            refine CP.tail ?_
            have hd := cp_cond (c := L + 2) (W := 0) hW.1 hL (by omega) (by decide) hA hW.2.1.2.1 x310 hW.2.1.1.2 j1
            unfold CP at hd ⊢
            rw [wp_bx]
            refine hd.mono fun u hu => ?_
            obtain ⟨v, ev, hv⟩ := hu
            rcases hv with ⟨z1, z2, z3⟩ | ⟨z0, z1, z2, j', k2⟩
            · rw [z1]; exact wp_some.mpr ⟨v, ev, Or.inl ⟨rfl, z2, EL.of fx fm (z3.el hL (by omega) (by decide) hW.2.1.2.1.1.1)⟩⟩
            · have g := LW.cnd (W := 0) hW hL (Or.inl rfl) (by rw [show L + 2 + 2 * 0 = L + 2 by omega]; exact k2)
              have := k2.1.2.2.2.2
              rw [z1]
              exact wp_some.mpr ⟨v, ev, Or.inr ⟨0, rfl, z2, j', by omega, g.1, fx.trans g.2.1, fm.trans g.2.2⟩⟩
          · rw [if_neg w2, if_neg w2]
            by_cases w3 : w = 3
            · subst w3
              rw [if_pos rfl, if_pos rfl, lv_e, x310, ck_pos (by omega)]
              refine CP.tail ?_
              have hd := cp_cond (c := L + 4) (W := 1) hW.1 hL (by omega) (by decide) hA hW.2.1.2.1 x310 hW.2.1.1.2 j1
              unfold CP at hd ⊢
              rw [wp_bx]
              refine hd.mono fun u hu => ?_
              obtain ⟨v, ev, hv⟩ := hu
              rcases hv with ⟨z1, z2, z3⟩ | ⟨z0, z1, z2, j', k2⟩
              · rw [z1]; exact wp_some.mpr ⟨v, ev, Or.inl ⟨rfl, z2, EL.of fx fm (z3.el hL (by omega) (by decide) hW.2.1.2.1.1.1)⟩⟩
              · have g := LW.cnd (W := 1) hW hL (Or.inr rfl) (by rw [show L + 2 + 2 * 1 = L + 4 by omega]; exact k2)
                have := k2.1.2.2.2.2
                rw [z1]
                exact wp_some.mpr ⟨v, ev, Or.inr ⟨0, rfl, z2, j', by omega, g.1, fx.trans g.2.1, fm.trans g.2.2⟩⟩
            · rw [if_neg w3, if_neg w3]
              by_cases w4 : w = 4
              · subst w4
                rw [if_pos rfl, if_pos rfl, lv_e, x310, ck_pos (by omega)]
                refine CP.tail ?_
                unfold fX11_takeSignatures
                refine (cp_within hW.1).bx (fun u v e => ?_) (fun v1 x4 y4 q4 => ?_)
                · rw [zer_if, wp_some]; exact ⟨rfl, EL.of fx fm e.el⟩
                · rw [one_if, q4.2.2.1, sd_e, sd_e, sd_e]
                  have h4W := hW.ss hL q4.1 (by omega)
                  have g := h4W.num (x' := st x4 L 3 v1) (y' := st (st y4 1576 5 v1) 1576 6 1) hL (by decide) (fun p q z => by unfold st; rw [if_neg (by omega)]) (fun p q z => by unfold st; rw [if_neg (by omega), if_neg (by omega)]) (by simp (disch := omega) only [w32_o, w64_o, w8_o, st_eq, st_na, st_nk, ck_pos, wp_sd, wp_lv, wp_lm, wp_some, wp_b1, wp_bd, wp_b2, wp_b3, wp_up, wp_map]; exact h4W.2.1.2.2.2.2.2.2.2.1) (by simp (disch := omega) only [w32_o, w64_o, w8_o, st_eq, st_na, st_nk, ck_pos, wp_sd, wp_lv, wp_lm, wp_some, wp_b1, wp_bd, wp_b2, wp_b3, wp_up, wp_map]; exact h4W.2.1.2.2.2.2.2.2.2.2) (fun z => by
                    have u := (h4W.2.2 z).2.1
                    have z3 := wm9 q4.1.2.2.1 z
                    have x44 : x4 L 4 = 1 := by
                      rw [q4.1.1 _ _ (by omega) (by omega)]
                      exact h4 z3 rfl
                    have hv : 0 ≤ v1 ∧ v1 ≤ 20 := by
                      rcases q4.2.2.2.1 with r | r
                      · exact r
                      · exact absurd z r.1
                    have e1 : st x4 L 3 v1 L 3 = v1 := st_eq _ _ _ _
                    have e2 : st (st y4 1576 5 v1) 1576 6 1 1576 5 = v1 := by simp (disch := omega) only [w32_o, w64_o, w8_o, st_eq, st_na, st_nk, ck_pos, wp_sd, wp_lv, wp_lm, wp_some, wp_b1, wp_bd, wp_b2, wp_b3, wp_up, wp_map]
                    have e3 : st x4 L 3 v1 L 4 = 1 := by rw [st_nk (by decide)]; exact x44
                    have e4 : st (st y4 1576 5 v1) 1576 6 1 1576 6 = 1 := st_eq _ _ _ _
                    have e5 : st x4 L 3 v1 L 5 = x4 L 5 := st_nk (by decide)
                    have e6 : st (st y4 1576 5 v1) 1576 6 1 1576 7 = y4 1576 7 := by simp (disch := omega) only [w32_o, w64_o, w8_o, st_eq, st_na, st_nk, ck_pos, wp_sd, wp_lv, wp_lm, wp_some, wp_b1, wp_bd, wp_b2, wp_b3, wp_up, wp_map]
                    rw [e1, e2, e3, e4, e5, e6]
                    exact ⟨⟨rfl, hv⟩, by decide, u.2.2.1, fun _ => rfl⟩)
                  have x512 : st x4 L 3 v1 12 4 = x4 12 4 := st_na (by omega)
                  generalize st x4 L 3 v1 = x5 at *
                  generalize st (st y4 1576 5 v1) 1576 6 1 = y5 at *
                  have hR5 := g.1.1
                  rw [hR5.1.isWd (w := 8) (by decide), hR5.2.1.may (w := 8) (by decide) (by decide), b2_s]
                  have fx5 : FLX L x x5 := fx.trans (q4.1.1.fl.trans g.2.1)
                  have fm5 : FLM y y5 := fm.trans (q4.1.2.1.fl.trans g.2.2)
                  by_cases q8 : wd t n (j + 1 + 1) = 8
                  · rw [if_pos q8, one_if, if_pos q8]
                    dsimp only
                    rw [one_if]
                    refine CP.tk (hR5.take (hR5.lt_w (by decide) q8)) fun x6 s6 => ?_
                    have h6 := g.1.ss hL s6 (by omega)
                    rw [lv_e, h6.2.1.1.1, ck_pos (by omega)]
                    refine (cp_within s6.2.2.2).bx (fun u v e => ?_) (fun v2 x7 y7 q7 => ?_)
                    · rw [zer_if, wp_some]; exact ⟨rfl, EL.of (fx5.trans s6.1.fl) (fm5.trans s6.2.1.fl) e.el⟩
                    · rw [one_if, q7.2.2.1, sd_e, sd_e]
                      have h7 := h6.ss hL q7.1 (by omega)
                      have x712 : x7 10 9 = -1 → x7 12 4 = 1 := fun z => by
                        rw [q7.1.1 _ _ (by omega) (by omega), s6.1 _ _ (by omega) (by omega), x512, q4.1.1 _ _ (by omega) (by omega)]
                        exact x312
                      have g7 := h7.num (x' := st x7 L 4 v2) (y' := st y7 1576 6 v2) hL (by decide) (fun p q z => by unfold st; rw [if_neg (by omega)]) (fun p q z => by unfold st; rw [if_neg (by omega)]) (by simp (disch := omega) only [w32_o, w64_o, w8_o, st_eq, st_na, st_nk, ck_pos, wp_sd, wp_lv, wp_lm, wp_some, wp_b1, wp_bd, wp_b2, wp_b3, wp_up, wp_map]; exact h7.2.1.2.2.2.2.2.2.2.1) (by simp (disch := omega) only [w32_o, w64_o, w8_o, st_eq, st_na, st_nk, ck_pos, wp_sd, wp_lv, wp_lm, wp_some, wp_b1, wp_bd, wp_b2, wp_b3, wp_up, wp_map]; exact h7.2.1.2.2.2.2.2.2.2.2) (fun z => by
                        have u := (h7.2.2 z).2.1
                        have hv : 1 ≤ v2 ∧ v2 ≤ 20 := by
                          rcases q7.2.2.2.1 with r | r
                          · exact r
                          · exact absurd z r.1
                        have e1 : st x7 L 4 v2 L 4 = v2 := st_eq _ _ _ _
                        have e2 : st y7 1576 6 v2 1576 6 = v2 := st_eq _ _ _ _
                        have e3 : st x7 L 4 v2 L 3 = x7 L 3 := st_nk (by decide)
                        have e4 : st y7 1576 6 v2 1576 5 = y7 1576 5 := st_nk (by decide)
                        have e5 : st x7 L 4 v2 L 5 = x7 L 5 := st_nk (by decide)
                        have e6 : st y7 1576 6 v2 1576 7 = y7 1576 7 := st_nk (by decide)
                        rw [e1, e2, e3, e4, e5, e6]
                        refine ⟨u.1, ⟨rfl, hv⟩, u.2.2.1, fun w => ?_⟩
                        rw [x712 z] at w
                        exact absurd w (by decide))
                      exact CP.ret ⟨j + 1 + 1 + 1 + 1, by omega, g7.1, fx5.trans (s6.1.fl.trans (q7.1.1.fl.trans g7.2.1)), fm5.trans (s6.2.1.fl.trans (q7.1.2.1.fl.trans g7.2.2))⟩
                  · rw [if_neg q8, zer_if, if_neg q8]
                    dsimp only
                    rw [zer_if]
                    exact CP.ret ⟨j + 1 + 1, by omega, g.1, fx5, fm5⟩
              · rw [if_neg w4, if_neg w4]
                by_cases w5 : w = 5
                · subst w5
                  rw [if_pos rfl, if_pos rfl, lv_e, x310, ck_pos (by omega)]
                  refine (cp_within hW.1).bx (fun u v e => ?_) (fun v1 x4 y4 q4 => ?_)
                  · rw [zer_if, wp_some]; exact ⟨rfl, EL.of fx fm e.el⟩
                  · rw [one_if, q4.2.2.1, sd_e, sd_e]
                    have h4W := hW.ss hL q4.1 (by omega)
                    have g := h4W.num (x' := st x4 L 5 v1) (y' := st y4 1576 7 v1) hL (by decide) (fun p q z => by unfold st; rw [if_neg (by omega)]) (fun p q z => by unfold st; rw [if_neg (by omega)]) (by simp (disch := omega) only [w32_o, w64_o, w8_o, st_eq, st_na, st_nk, ck_pos, wp_sd, wp_lv, wp_lm, wp_some, wp_b1, wp_bd, wp_b2, wp_b3, wp_up, wp_map]; exact h4W.2.1.2.2.2.2.2.2.2.1) (by simp (disch := omega) only [w32_o, w64_o, w8_o, st_eq, st_na, st_nk, ck_pos, wp_sd, wp_lv, wp_lm, wp_some, wp_b1, wp_bd, wp_b2, wp_b3, wp_up, wp_map]; exact h4W.2.1.2.2.2.2.2.2.2.2) (fun z => by
                      have u := (h4W.2.2 z).2.1
                      have hv : 0 ≤ v1 ∧ v1 ≤ 3 := by
                        rcases q4.2.2.2.1 with r | r
                        · exact r
                        · exact absurd z r.1
                      have e1 : st x4 L 5 v1 L 5 = v1 := st_eq _ _ _ _
                      have e2 : st y4 1576 7 v1 1576 7 = v1 := st_eq _ _ _ _
                      have e3 : st x4 L 5 v1 L 3 = x4 L 3 := st_nk (by decide)
                      have e4 : st y4 1576 7 v1 1576 5 = y4 1576 5 := st_nk (by decide)
                      have e5 : st x4 L 5 v1 L 4 = x4 L 4 := st_nk (by decide)
                      have e6 : st y4 1576 7 v1 1576 6 = y4 1576 6 := st_nk (by decide)
                      rw [e1, e2, e3, e4, e5, e6]
                      exact ⟨u.1, u.2.1, ⟨rfl, hv⟩, u.2.2.2⟩)
                    exact CP.ret ⟨j + 1 + 1, by omega, g.1, fx.trans (q4.1.1.fl.trans g.2.1), fm.trans (q4.1.2.1.fl.trans g.2.2)⟩
                · rw [if_neg w5, if_neg w5, if_pos (show w = 6 by omega), lv_e, x310, ck_pos (by omega), sd_e, sd_e]
                  have g := hW.num (x' := st x3 L 2 1) (y' := st y3 1576 8 1) hL (by omega) (fun p q z => by unfold st; rw [if_neg (by omega)]) (fun p q z => by unfold st; rw [if_neg (by omega)]) (by rw [st_nk (by decide), st_nk (by decide)]; exact hW.2.1.2.2.2.2.2.2.2.1) (by rw [st_eq, st_eq]; decide) (fun z => by simp (disch := omega) only [w32_o, w64_o, w8_o, st_eq, st_na, st_nk, ck_pos, wp_sd, wp_lv, wp_lm, wp_some, wp_b1, wp_bd, wp_b2, wp_b3, wp_up, wp_map]; exact (hW.2.2 z).2.1)
                  exact CP.ret ⟨j + 1, by omega, g.1, fx.trans g.2.1, fm.trans g.2.2⟩
  · rw [if_neg q, if_neg (by omega)]
    unfold fX11_takeClause_47
    rw [if_neg (by decide)]
    show CP (bx _ th _) _ _ _
    rw [bad_bx]
    exact (hR.miss (Q := fun _ _ _ => False)).mono (fun x' y' e => e.el) (fun _ _ _ e => e.elim)
end CLD
