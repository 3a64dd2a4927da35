/-! LEVEL 3: clauses of a law, whole -/
set_option maxRecDepth 100000
set_option maxHeartbeats 4000000
section CLB
variable {t : Int → Int} {n : Int} {N : Nat} {L A ex : Int} {x y x' y' : Dt} {j j' : Nat}
theorem wm9 {x x' : Dt} (hw : Wm x x') (q : x' 10 9 = -1) : x 10 9 = -1 := by
  rcases Int.decEq (x 10 9) (-1) with r | r
  · exact absurd q (hw r).1
  · exact r
/-- numbers of a law are kept -/
theorem LW.num (h : LW t n N L A ex x y j) (hL : 15 ≤ L) (hex : ex ≠ 0 ∧ ex ≠ 2 ∧ ex ≠ 3 ∧ ex ≠ 7) (hx : ∀ p q, ¬ (p = L ∧ 1 ≤ q ∧ q ≤ 5) → x' p q = x p q) (hy : ∀ p q, ¬ (p = 1576 ∧ 4 ≤ q ∧ q ≤ 8) → y' p q = y p q) (e1 : x' L 1 = y' 1576 4 ∧ (x' L 1 = 0 ∨ x' L 1 = 1)) (e2 : x' L 2 = y' 1576 8 ∧ (x' L 2 = 0 ∨ x' L 2 = 1)) (e3 : x 10 9 = -1 → (x' L 3 = y' 1576 5 ∧ 0 ≤ x' L 3 ∧ x' L 3 ≤ 20) ∧ (x' L 4 = y' 1576 6 ∧ 1 ≤ x' L 4 ∧ x' L 4 ≤ 20) ∧ (x' L 5 = y' 1576 7 ∧ 0 ≤ x' L 5 ∧ x' L 5 ≤ 3) ∧ (x 12 4 = 0 → x' L 4 = 1)) : LW t n N L A (-1) x' y' j ∧ FLX L x x' ∧ FLM y y' := by
  obtain ⟨hR2, hB2, hC2⟩ := h
  obtain ⟨⟨c1a, c1b, c1c⟩, c2, c3, c4, c5, c6, c7, c8, c9⟩ := hB2
  refine ⟨⟨hR2.cg2 (fun p q u => hx _ _ (by omega)) (fun p q u => hy _ _ (by omega)), ⟨⟨by rw [hx _ _ (by omega)]; exact c1a, by rw [hx _ _ (by omega)]; exact c1b, by rw [hy _ _ (by omega)]; exact c1c⟩, ⟨by rw [hx _ _ (by omega)]; exact c2.1, by rw [hx _ _ (by omega), hx 10 9 (by omega), hy _ _ (by omega)]; exact c2.2⟩, by rw [hx _ _ (by omega), hy _ _ (by omega)]; exact c3, by rw [hy _ _ (by omega)]; exact c4, fun v v0 v1 => by rw [hx _ _ (by omega), hy _ _ (by omega)]; exact c5 v v0 v1, fun _ => by rw [hy _ _ (by omega), hx _ _ (by omega)]; exact c6 hex.2.2.2, by rw [hx _ _ (by omega), hy _ _ (by omega)]; exact c7, e1, e2⟩, fun z => ?_⟩, fun p q u1 u2 u3 u4 u5 => hx _ _ (by omega), fun p q u1 u2 u3 u4 u5 u6 u7 => hy _ _ (by omega)⟩
  rw [hx _ _ (by omega)] at z
  obtain ⟨l1, l2, l3, l4, l5, l6, l7⟩ := hC2 z
  refine ⟨by rw [hx _ _ (by omega)]; exact l1, by rw [hx 12 4 (by omega)]; exact e3 z, fun _ z0 => ?_, fun c k0 k1 => ?_, fun k k0 k1 => ?_, fun _ => ?_, fun _ => ?_⟩
  · rw [hx _ _ (by omega)] at z0
    exact (l3 hex.1 z0).cg (fun q _ _ => hx _ _ (by omega)) (fun q _ _ => hy _ _ (by omega))
  · rw [hx _ _ (by omega)] at k1
    exact (l4 c k0 k1).cg (fun q _ _ => hx _ _ (by omega)) (fun q _ _ => hy _ _ (by omega))
  · rw [hx _ _ (by omega)] at k1
    exact (l5 k k0 k1).cg (fun p _ _ => hx _ _ (by omega)) (fun p _ _ => hy _ _ (by omega))
  · have := l6 hex.2.1
    rw [hx (L + 2) 3 (by omega), hx 10 13 (by omega)]
    exact ⟨this.1.cg (fun q _ _ => hx _ _ (by omega)) (fun q _ _ => hx _ _ (by omega)) (fun q _ _ => hx _ _ (by omega)) (hy _ _ (by omega)) (fun q _ _ => hy _ _ (by omega)), this.2⟩
  · have := l7 hex.2.2.1
    rw [hx (L + 4) 3 (by omega), hx 10 13 (by omega)]
    exact ⟨this.1.cg (fun q _ _ => hx _ _ (by omega)) (fun q _ _ => hx _ _ (by omega)) (fun q _ _ => hx _ _ (by omega)) (hy _ _ (by omega)) (fun q _ _ => hy _ _ (by omega)), this.2⟩
/-- the days were read -/
theorem LW.dys {v : Int} {i : Nat} (h : LW t n N L A 0 x y i) (hL : 15 ≤ L) (hd : DJ t n N L x y i 4 v x' y' j') (hall : x' 10 9 ≠ -1 ∨ PD L 4 v x' y') : LW t n N L A (-1) x' y' j' ∧ FLX L x x' ∧ FLM y y' := by
  obtain ⟨-, hB2, hC2⟩ := h
  obtain ⟨hR, hj, hx, hy, hw, -⟩ := hd
  obtain ⟨⟨c1a, c1b, c1c⟩, c2, c3, c4, c5, c6, c7, c8, c9⟩ := hB2
  have hx' : ∀ p q, ¬ (p = 10 ∧ 5 ≤ q ∧ q ≤ 9) → p ≠ 11 → p ≠ L + 1 → x' p q = x p q := fun p q u1 u2 u3 => hx p q u1 u2 (by omega)
  refine ⟨⟨hR, ⟨⟨by rw [hx' _ _ (by omega) (by omega) (by omega)]; exact c1a, by rw [hx' _ _ (by omega) (by omega) (by omega)]; exact c1b, by rw [hy _ _ (by omega) (by omega)]; exact c1c⟩, ⟨by rw [hx' _ _ (by omega) (by omega) (by omega)]; exact c2.1, ?_⟩, by rw [hx' _ _ (by omega) (by omega) (by omega), hy _ _ (by omega) (by omega)]; exact c3, by rw [hy _ _ (by omega) (by omega)]; exact c4, fun v v0 v1 => by rw [hx' _ _ (by omega) (by omega) (by omega), hy _ _ (by omega) (by omega)]; exact c5 v v0 v1, fun _ => by rw [hy _ _ (by omega) (by omega), hx' _ _ (by omega) (by omega) (by omega)]; exact c6 (by decide), by rw [hx' _ _ (by omega) (by omega) (by omega), hy _ _ (by omega) (by omega)]; omega, by rw [hx' _ _ (by omega) (by omega) (by omega), hy _ _ (by omega) (by omega)]; exact c8, by rw [hx' _ _ (by omega) (by omega) (by omega), hy _ _ (by omega) (by omega)]; exact c9⟩, fun z => ?_⟩, fun p q u1 u2 u3 u4 u5 => hx _ _ (by omega) u2 (by omega), fun p q u1 u2 u3 u4 u5 u6 u7 => hy _ _ (by omega) (by omega)⟩
  · rw [hx' _ _ (by omega) (by omega) (by omega), hy _ _ (by omega) (by omega)]
    rcases c2.2 with r | r
    · exact Or.inl r
    · exact Or.inr ⟨r.1, r.2.1, (hw r.2.2).1⟩
  · obtain ⟨l1, l2, l3, l4, l5, l6, l7⟩ := hC2 (wm9 hw z)
    refine ⟨by rw [hx' _ _ (by omega) (by omega) (by omega)]; exact l1, by rw [hx' L 3 (by omega) (by omega) (by omega), hx' L 4 (by omega) (by omega) (by omega), hx' L 5 (by omega) (by omega) (by omega), hx' 12 4 (by omega) (by omega) (by omega), hy _ _ (by omega) (by omega), hy _ _ (by omega) (by omega), hy _ _ (by omega) (by omega)]; exact l2, fun _ _ => ?_, fun c k0 k1 => ?_, fun k k0 k1 => ?_, fun _ => ?_, fun _ => ?_⟩
    · rcases hall with r | r
      · exact absurd z r
      · intro k k0 k1
        have := r.1 k k0 k1
        exact ⟨this.1, this.2.1, this.2.2.1, fun q => this.2.2.2 (by omega)⟩
    · rw [hx' _ _ (by omega) (by omega) (by omega)] at k1
      exact (l4 c k0 k1).cg (fun q _ _ => hx' _ _ (by omega) (by omega) (by omega)) (fun q _ _ => hy _ _ (by omega) (by omega))
    · rw [hx' _ _ (by omega) (by omega) (by omega)] at k1
      exact (l5 k k0 k1).cg (fun p _ _ => hx' _ _ (by omega) (by omega) (by omega)) (fun p _ _ => hy _ _ (by omega) (by omega))
    · have := l6 (by decide)
      rw [hx' (L + 2) 3 (by omega) (by omega) (by omega), hx' 10 13 (by omega) (by omega) (by omega)]
      exact ⟨this.1.cg (fun q _ _ => hx' _ _ (by omega) (by omega) (by omega)) (fun q _ _ => hx' _ _ (by omega) (by omega) (by omega)) (fun q _ _ => hx' _ _ (by omega) (by omega) (by omega)) (hy _ _ (by omega) (by omega)) (fun q _ _ => hy _ _ (by omega) (by omega)), this.2⟩
    · have := l7 (by decide)
      rw [hx' (L + 4) 3 (by omega) (by omega) (by omega), hx' 10 13 (by omega) (by omega) (by omega)]
      exact ⟨this.1.cg (fun q _ _ => hx' _ _ (by omega) (by omega) (by omega)) (fun q _ _ => hx' _ _ (by omega) (by omega) (by omega)) (fun q _ _ => hx' _ _ (by omega) (by omega) (by omega)) (hy _ _ (by omega) (by omega)) (fun q _ _ => hy _ _ (by omega) (by omega)), this.2⟩
/-- a condition was read -/
theorem LW.cnd {W : Int} (h : LW t n N L A (2 + W) x y j) (hL : 15 ≤ L) (hW : W = 0 ∨ W = 1) (hc : CJ t n N x y L (L + 2 + 2 * W) W (x 10 13) A j SemF x' y' j' [(0, 0)]) : LW t n N L A (-1) x' y' j' ∧ FLX L x x' ∧ FLM y y' := by
  have hcn := hc.cn
  obtain ⟨⟨hR, hFX, hFM, hw, hj⟩, -, -, ⟨hTR, hf0, hf1⟩, ⟨hc2, hc3, hL'⟩, hTS, -, hA⟩ := hc
  obtain ⟨-, hB2, hC2⟩ := h
  obtain ⟨⟨c1a, c1b, c1c⟩, c2, c3, c4, c5, c6, c7, c8, c9⟩ := hB2
  have hx : ∀ p q, ¬ (p = 10 ∧ ((5 ≤ q ∧ q ≤ 9) ∨ q = 13 ∨ q = 15 ∨ q = 16)) → p ≠ 11 → p ≠ 13 → ¬ (p = L + 2 + 2 * W) → p ≠ L + 2 + 2 * W + 1 → ¬ (L + 6 ≤ p ∧ p ≤ L + 10 ∧ x 10 13 ≤ q) → x' p q = x p q := fun p q u1 u2 u3 u4 u5 u6 => hFX p q u1 u2 u3 (by omega) u5 u6
  have hy : ∀ p q, ¬ (p = 1545 ∧ 29 ≤ q ∧ q ≤ 35) → ¬ (p = 1569 ∧ 4002 * W ≤ q ∧ q < 4002 * W + 4002) → ¬ (p = 1570 ∧ q = W) → ¬ (p = 1571) → ¬ (1572 ≤ p ∧ p ≤ 1575 ∧ x 10 13 ≤ q) → y' p q = y p q := fun p q u1 u2 u3 u4 u5 => hFM p q u1 u2 u3 (by omega) (by omega)
  have hW' : 0 ≤ W ∧ W ≤ 1 := by omega
  refine ⟨⟨hR, ⟨⟨hL', hA.1, hA.2⟩, hTR, by rw [hx _ _ (by omega) (by omega) (by omega) (by omega) (by omega) (by omega), hy _ _ (by omega) (by omega) (by omega) (by omega) (by omega)]; exact c3, by rw [hy _ _ (by omega) (by omega) (by omega) (by omega) (by omega)]; exact c4, fun v v0 v1 => by rw [hx _ _ (by omega) (by omega) (by omega) (by omega) (by omega) (by omega), hy _ _ (by omega) (by omega) (by omega) (by omega) (by omega)]; exact c5 v v0 v1, fun _ => by rw [hy _ _ (by omega) (by omega) (by omega) (by omega) (by omega), hx _ _ (by omega) (by omega) (by omega) (by omega) (by omega) (by omega)]; exact c6 (by omega), by rw [hx _ _ (by omega) (by omega) (by omega) (by omega) (by omega) (by omega), hy _ _ (by omega) (by omega) (by omega) (by omega) (by omega)]; omega, by rw [hx _ _ (by omega) (by omega) (by omega) (by omega) (by omega) (by omega), hy _ _ (by omega) (by omega) (by omega) (by omega) (by omega)]; exact c8, by rw [hx _ _ (by omega) (by omega) (by omega) (by omega) (by omega) (by omega), hy _ _ (by omega) (by omega) (by omega) (by omega) (by omega)]; exact c9⟩, fun z => ?_⟩, fun p q u1 u2 u3 u4 u5 => hx _ _ (by omega) u2 u4 (by omega) (by omega) (by omega), fun p q u1 u2 u3 u4 u5 u6 u7 => hFM _ _ (by omega) (by omega) (by omega) (by omega) (by omega)⟩
  obtain ⟨l1, l2, l3, l4, l5, l6, l7⟩ := hC2 (wm9 hw z)
  have new := hcn z
  refine ⟨by rw [hx _ _ (by omega) (by omega) (by omega) (by omega) (by omega) (by omega)]; exact l1, by rw [hx L 3 (by omega) (by omega) (by omega) (by omega) (by omega) (by omega), hx L 4 (by omega) (by omega) (by omega) (by omega) (by omega) (by omega), hx L 5 (by omega) (by omega) (by omega) (by omega) (by omega) (by omega), hx 12 4 (by omega) (by omega) (by omega) (by omega) (by omega) (by omega), hy _ _ (by omega) (by omega) (by omega) (by omega) (by omega), hy _ _ (by omega) (by omega) (by omega) (by omega) (by omega), hy _ _ (by omega) (by omega) (by omega) (by omega) (by omega)]; exact l2, fun _ z0 => ?_, fun c k0 k1 => ?_, fun k k0 k1 => ?_, fun _ => ?_, fun _ => ?_⟩
  · rw [hx _ _ (by omega) (by omega) (by omega) (by omega) (by omega) (by omega)] at z0
    exact (l3 (by omega) z0).cg (fun q _ _ => hx _ _ (by omega) (by omega) (by omega) (by omega) (by omega) (by omega)) (fun q _ _ => hy _ _ (by omega) (by omega) (by omega) (by omega) (by omega))
  · rw [hx _ _ (by omega) (by omega) (by omega) (by omega) (by omega) (by omega)] at k1
    exact (l4 c k0 k1).cg (fun q _ _ => hx _ _ (by omega) (by omega) (by omega) (by omega) (by omega) (by omega)) (fun q _ _ => hy _ _ (by omega) (by omega) (by omega) (by omega) (by omega))
  · by_cases q : x 10 13 ≤ k
    · exact hTS z k q k1
    · exact (l5 k k0 (by omega)).cg (fun p _ _ => hx _ _ (by omega) (by omega) (by omega) (by omega) (by omega) (by omega)) (fun p _ _ => hy _ _ (by omega) (by omega) (by omega) (by omega) (by omega))
  · rcases hW with rfl | rfl
    · rw [show L + 2 + 2 * 0 = L + 2 by omega] at new hc3
      exact ⟨new, by omega⟩
    · have := l6 (by decide)
      have u := this.1
      rw [hx (L + 2) 3 (by omega) (by omega) (by omega) (by omega) (by omega) (by omega)]
      exact ⟨u.cg (fun q _ _ => hx _ _ (by omega) (by omega) (by omega) (by omega) (by omega) (by omega)) (fun q _ _ => hx _ _ (by omega) (by omega) (by omega) (by omega) (by omega) (by omega)) (fun q _ _ => hx _ _ (by omega) (by omega) (by omega) (by omega) (by omega) (by omega)) (hy _ _ (by omega) (by omega) (by omega) (by omega) (by omega)) (fun q _ _ => hy _ _ (by omega) (by have := u.2.2.1; omega) (by omega) (by omega) (by omega)), by omega⟩
  · rcases hW with rfl | rfl
    · have := l7 (by decide)
      have u := this.1
      rw [hx (L + 4) 3 (by omega) (by omega) (by omega) (by omega) (by omega) (by omega)]
      exact ⟨u.cg (fun q _ _ => hx _ _ (by omega) (by omega) (by omega) (by omega) (by omega) (by omega)) (fun q _ _ => hx _ _ (by omega) (by omega) (by omega) (by omega) (by omega) (by omega)) (fun q _ _ => hx _ _ (by omega) (by omega) (by omega) (by omega) (by omega) (by omega)) (hy _ _ (by omega) (by omega) (by omega) (by omega) (by omega)) (fun q _ _ => hy _ _ (by omega) (by have := u.2.2.1; omega) (by omega) (by omega) (by omega)), by omega⟩
    · rw [show L + 2 + 2 * 1 = L + 4 by omega] at new hc3
      exact ⟨new, by omega⟩
end CLB
