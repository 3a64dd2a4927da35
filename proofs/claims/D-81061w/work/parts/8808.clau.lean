/-! LEVEL 3: clauses of a law -/
set_option maxRecDepth 100000
set_option maxHeartbeats 4000000
theorem tb_key : ∀ T : Nat, T < 256 → ∀ w : Nat, w < 8 → (0 ≤ bOr T (bShl 1 w) ∧ bOr T (bShl 1 w) ≤ 255) ∧ (∀ v : Nat, v < 8 → tb (bOr T (bShl 1 w)) v = if v = w then 1 else tb T v) ∧ (tb T w = 0 ∨ tb T w = 1) ∧ bAnd T 1 = tb T 0 := by decide +kernel
theorem tb_or {T w v : Int} (hT : 0 ≤ T ∧ T ≤ 255) (hw : 0 ≤ w ∧ w < 8) (hv : 0 ≤ v ∧ v < 8) : tb (bOr T (bShl 1 w)) v = if v = w then 1 else tb T v := by
  have := (tb_key T.toNat (by omega) w.toNat (by omega)).2.1 v.toNat (by omega)
  rw [show ((T.toNat : Nat) : Int) = T by omega, show ((w.toNat : Nat) : Int) = w by omega, show ((v.toNat : Nat) : Int) = v by omega] at this
  rw [this]
  by_cases q : v = w
  · rw [if_pos q, if_pos (by omega)]
  · rw [if_neg q, if_neg (by omega)]
theorem tb_in {T w : Int} (hT : 0 ≤ T ∧ T ≤ 255) (hw : 0 ≤ w ∧ w < 8) : (0 ≤ bOr T (bShl 1 w) ∧ bOr T (bShl 1 w) ≤ 255) ∧ (tb T w = 0 ∨ tb T w = 1) ∧ bAnd T 1 = tb T 0 := by
  have := tb_key T.toNat (by omega) w.toNat (by omega)
  rw [show ((T.toNat : Nat) : Int) = T by omega, show ((w.toNat : Nat) : Int) = w by omega] at this
  exact ⟨this.1, this.2.2⟩
section CLA
variable {t : Int → Int} {n : Int} {N : Nat} {L A : Int} {x y : Dt} {j : Nat}
/-- a clause's word was taken: it is told on both sides -/
theorem LW.told {x1 : Dt} {w : Int} (h : LW t n N L A (-1) x y j) (hL : 15 ≤ L) (hw : 0 ≤ w ∧ w < 7) (s1 : SS t n N x y x1 (nxb y) (j + 1)) : ∃ x2 y2, (fX2_note x1 (if x1 12 w = 0 then 1 else 0) (sp t n j) = some x2) ∧ LW t n N L A w (st x2 12 w (1 % 2)) (st y2 1545 50 (bOr (y 1545 50) (bShl 1 w))) (j + 1) ∧ Wm x (st x2 12 w (1 % 2)) ∧ FLX L x (st x2 12 w (1 % 2)) ∧ FLM y (st y2 1545 50 (bOr (y 1545 50) (bShl 1 w))) ∧ (st x2 12 w (1 % 2) 10 9 = -1 → w = 4 → st x2 12 w (1 % 2) L 4 = 1) ∧ fX11_takeClause_47 (nxb y) (sp t n j) w = fX11_takeClause_97 y2 w ∧ y2 1545 50 = y 1545 50 ∧ FX x x2 := by
  have h1 := h.ss hL s1 (by omega)
  obtain ⟨hR1, hB1, hC1⟩ := h1
  obtain ⟨b1, b2, b3, b4, b5, b6, b7, b8, b9⟩ := hB1
  have hrr := h.1.sp
  have eT : nxb y 1545 50 = y 1545 50 := nx_at (by decide)
  rw [eT] at b4 b5 b6
  have b5w := b5 w hw.1 hw.2
  have hb01 := (tb_in b4 (w := w) (by omega)).2.1
  -- the states behind note and blame
  obtain ⟨x2, y2, e1, e2, s2, hbl⟩ : ∃ x2 y2, fX2_note x1 (if x1 12 w = 0 then 1 else 0) (sp t n j) = some x2 ∧ fX11_takeClause_47 (nxb y) (sp t n j) w = fX11_takeClause_97 y2 w ∧ SS t n N x1 (nxb y) x2 y2 (j + 1) ∧ (x2 10 9 = -1 → x1 12 w = 0) := by
    have eM : fX11_takeClause_47 (nxb y) (sp t n j) w = if tb (y 1545 50) w = 1 then fX11_takeClause_97 (bl (nxb y) (sp t n j)) w else fX11_takeClause_97 (nxb y) w := by
      unfold fX11_takeClause_47 fX11_takeClause_74 fX11_takeClause_92 tb
      rw [if_pos hw.1, if_neg (show ¬ 7 ≤ w by omega), eT, blame_M, bd_s, if_neg (show ¬ w = 7 by omega)]
    rw [eM, note_X, b5w]
    rcases hb01 with q | q
    · rw [q, zer_if, nt_1]
      exact ⟨x1, nxb y, rfl, if_neg (by decide), SS.refl hR1, fun _ => rfl⟩
    · rw [q, one_if]
      have nb := hR1.nb hrr.2.1
      exact ⟨_, _, rfl, if_pos rfl, nb.1, fun z => absurd z nb.2.1⟩
  have h2 := (show LW t n N L A (-1) x1 (nxb y) (j + 1) from h.ss hL s1 (by omega)).ss hL s2 (Nat.le_refl _)
  have e50 : y2 1545 50 = y 1545 50 := by rw [s2.2.1 _ _ (by omega), eT]
  have ex : ∀ u v, ¬ (u = 12 ∧ v = w) → st x2 12 w (1 % 2) u v = x2 u v := fun u v z => by unfold st; rw [if_neg z]
  have ey : ∀ u v, ¬ (u = 1545 ∧ v = 50) → st y2 1545 50 (bOr (y 1545 50) (bShl 1 w)) u v = y2 u v := fun u v z => by unfold st; rw [if_neg z]
  have ex12 : st x2 12 w (1 % 2) 12 w = 1 := st_eq _ _ _ _
  have ey50 : st y2 1545 50 (bOr (y 1545 50) (bShl 1 w)) 1545 50 = bOr (y 1545 50) (bShl 1 w) := st_eq _ _ _ _
  have wm : Wm x x2 := s1.2.2.1.trans s2.2.2.1
  have fx : FX x x2 := s1.1.trans s2.1
  have fm : FM y y2 := s1.2.1.trans s2.2.1
  have x212 : x2 10 9 = -1 → x2 12 w = 0 := fun z => by rw [s2.1 _ _ (by omega) (by omega)]; exact hbl z
  refine ⟨x2, y2, e1, ?_, fun z => by rw [ex _ _ (by omega)]; exact wm z, fun u v u1 u2 u3 u4 u5 => by rw [ex _ _ (by omega)]; exact fx u v (by omega) u2, fun u v u1 u2 u3 u4 u5 u6 u7 => by rw [ey _ _ (by omega)]; exact fm u v (by omega), fun z z4 => ?_, e2, e50, fx⟩
  · generalize hX : st x2 12 w (1 % 2) = X at *
    generalize hY : st y2 1545 50 (bOr (y 1545 50) (bShl 1 w)) = Y at *
    obtain ⟨hR2, hB2, hC2⟩ := h2
    obtain ⟨⟨c1a, c1b, c1c⟩, c2, c3, c4, c5, c6, c7, c8, c9⟩ := hB2
    refine ⟨hR2.cg2 (fun p q u => ex _ _ (by omega)) (fun p q u => ey _ _ (by omega)), ⟨⟨by rw [ex _ _ (by omega)]; exact c1a, by rw [ex _ _ (by omega)]; exact c1b, by rw [ey _ _ (by omega)]; exact c1c⟩, ⟨by rw [ex _ _ (by omega)]; exact c2.1, by rw [ex _ _ (by omega), ex 10 9 (by omega), ey _ _ (by omega)]; exact c2.2⟩, by rw [ex _ _ (by omega), ey _ _ (by omega)]; exact c3, by rw [ey50]; exact (tb_in b4 (w := w) (by omega)).1, fun v v0 v1 => ?_, fun _ => ?_, by rw [ex _ _ (by omega), ey _ _ (by omega)]; exact c7, by rw [ex _ _ (by omega), ey _ _ (by omega)]; exact c8, by rw [ex _ _ (by omega), ey _ _ (by omega)]; exact c9⟩, fun z => ?_⟩
    · rw [ey50, tb_or b4 (by omega) (by omega)]
      by_cases q : v = w
      · rw [if_pos q, q, ex12]
      · rw [if_neg q, ex _ _ (by omega), c5 v v0 v1, e50]
    · rw [ey50, tb_or b4 (by omega) (by omega), if_neg (by omega), ex _ _ (by omega), ← e50]
      exact c6 (by decide)
    · rw [ex _ _ (by omega)] at z
      obtain ⟨l1, l2, l3, l4, l5, l6, l7⟩ := hC2 z
      have z12 := x212 z
      refine ⟨by rw [ex _ _ (by omega)]; exact l1, ?_, fun w0 z0 => ?_, fun c k0 k1 => ?_, fun k k0 k1 => ?_, fun w2 => ?_, fun w3 => ?_⟩
      · rw [ex L 3 (by omega), ex L 4 (by omega), ex L 5 (by omega), ey _ _ (by omega), ey _ _ (by omega), ey _ _ (by omega)]
        refine ⟨l2.1, l2.2.1, l2.2.2.1, fun q => ?_⟩
        by_cases q4 : w = 4
        · rw [q4] at ex12; rw [ex12] at q; exact absurd q (by decide)
        · rw [ex _ _ (by omega)] at q; exact l2.2.2.2 q
      · rw [ex _ _ (by omega)] at z0
        exact (l3 (by decide) z0).cg (fun q _ _ => ex _ _ (by omega)) (fun q _ _ => ey _ _ (by omega))
      · rw [ex _ _ (by omega)] at k1
        exact (l4 c k0 k1).cg (fun q _ _ => ex _ _ (by omega)) (fun q _ _ => ey _ _ (by omega))
      · rw [ex _ _ (by omega)] at k1
        exact (l5 k k0 k1).cg (fun p _ _ => ex _ _ (by omega)) (fun p _ _ => ey _ _ (by omega))
      · have := l6 (by decide)
        rw [ex (L + 2) 3 (by omega), ex 10 13 (by omega)]
        exact ⟨this.1.cg (fun q _ _ => ex _ _ (by omega)) (fun q _ _ => ex _ _ (by omega)) (fun q _ _ => ex _ _ (by omega)) (ey _ _ (by omega)) (fun q _ _ => ey _ _ (by omega)), this.2⟩
      · have := l7 (by decide)
        rw [ex (L + 4) 3 (by omega), ex 10 13 (by omega)]
        exact ⟨this.1.cg (fun q _ _ => ex _ _ (by omega)) (fun q _ _ => ex _ _ (by omega)) (fun q _ _ => ex _ _ (by omega)) (ey _ _ (by omega)) (fun q _ _ => ey _ _ (by omega)), this.2⟩
  · rw [ex _ _ (by omega)] at z
    have l2 := (h2.2.2 z).2.1
    rw [z4] at x212
    rw [ex _ _ (by omega)]
    exact l2.2.2.2 (x212 z)
end CLA
