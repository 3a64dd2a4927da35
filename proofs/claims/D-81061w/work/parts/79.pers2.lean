/-! LEVEL 3: persons of both sides -/
set_option maxRecDepth 100000
/-- the tags of a person and of what it owns -/
def PT (m : Dt) (x : Int) : Prop := 1666 ≤ x ∧ m x 3 = 13 ∧ ∀ j, 1 ≤ j → j ≤ 6 → m (x + j) 3 = 101
theorem PT.md {m : Dt} {x : Int} (h : PT m x) {j : Int} (h0 : 0 ≤ j) (h1 : j ≤ 6) (y : Int) : mo m (x + j) y = 4 := by
  unfold mo
  have := h.1
  rw [if_neg (by omega), if_neg (by omega), if_neg (by omega)]
  by_cases e : j = 0
  · subst e; rw [Int.add_zero, h.2.1]; rfl
  · rw [h.2.2 j (by omega) h1]; rfl
theorem PT.md0 {m : Dt} {x : Int} (h : PT m x) (y : Int) : mo m x y = 4 := by
  have := h.md (j := 0) (by decide) (by decide) y
  rwa [Int.add_zero] at this
def PX (d : Dt) (x p : Int) : Prop :=
  (isDt (d x 0) (d x 1) (d x 2) 1900 ∧ d x 0 = d 1553 p ∧ d x 1 = d 1554 p ∧ d x 2 = d 1555 p ∧ d x 3 = d 1552 p ∧ d x 3 = dnum (d x 0) (d x 1) (d x 2)) ∧
  ((d x 5 = 0 ∧ d x 4 = 36525 ∧ d 1556 p = -2147483648) ∨ (d x 5 ≠ 0 ∧ d x 4 = d 1556 p ∧ -36524 ≤ d x 4 ∧ d x 4 ≤ 36524)) ∧
  (d x 8 = d 1557 p ∧ (0 ≤ d x 8 ∧ d x 8 ≤ 10) ∧ Mv (d (x + 1)) (d (x + 2)) (fun k => d 1558 (10 * p + k)) (fun k => d 1559 (10 * p + k)) (d x 8)) ∧
  d x 13 = d 1560 p ∧ (0 ≤ d x 13 ∧ d x 13 ≤ 12) ∧ ∀ k, 0 ≤ k → k < d x 13 → d (x + 3) k = d 1561 (12 * p + k) ∧ d (x + 4) k = d 1562 (12 * p + k) ∧ (0 ≤ d (x + 4) k ∧ d (x + 4) k ≤ 1) ∧ d (x + 5) k = d 1563 (12 * p + k) ∧ d (x + 6) k = d 1564 (12 * p + k)
theorem Mv.cg {D T D' T' E U E' U' : Int → Int} {n : Int} (h : Mv D T D' T' n) (e1 : ∀ k, 0 ≤ k → k < n → E k = D k) (e2 : ∀ k, 0 ≤ k → k < n → U k = T k) (e3 : ∀ k, 0 ≤ k → k < n → E' k = D' k) (e4 : ∀ k, 0 ≤ k → k < n → U' k = T' k) : Mv E U E' U' n := by
  have ac : ∀ {D T E U : Int → Int} {t v : Int}, (∀ k, 0 ≤ k → k < n → E k = D k) → (∀ k, 0 ≤ k → k < n → U k = T k) → Ad D T n t v → Ad E U n t v := by
    intro D T E U t v a b q
    rcases q with ⟨e, q⟩ | ⟨k, ⟨k0, k1, k2, k3⟩, q⟩
    · exact Or.inl ⟨e, fun k k0 k1 => by rw [a k k0 k1]; exact q k k0 k1⟩
    · refine Or.inr ⟨k, ⟨k0, k1, by rw [a k k0 k1]; exact k2, by rw [b k k0 k1]; exact k3⟩, fun j j0 j1 j2 => ?_⟩
      rw [a j j0 j1] at j2 ⊢
      rw [a k k0 k1]
      exact q j j0 j1 j2
  have sy : ∀ {D E : Int → Int}, (∀ k, 0 ≤ k → k < n → E k = D k) → ∀ k, 0 ≤ k → k < n → D k = E k := fun a k k0 k1 => (a k k0 k1).symm
  have me : ∀ {D E : Int → Int} {t : Int}, (∀ k, 0 ≤ k → k < n → E k = D k) → (∃ k, 0 ≤ k ∧ k < n ∧ E k = t) → ∃ k, 0 ≤ k ∧ k < n ∧ D k = t := fun a ⟨k, k0, k1, e⟩ => ⟨k, k0, k1, by rw [← a k k0 k1]; exact e⟩
  refine ⟨fun i j a b c => ?_, fun t => ⟨fun q => me (sy e3) ((h.me t).mp (me e1 q)), fun q => me (sy e1) ((h.me t).mpr (me e3 q))⟩, fun t v => ⟨fun q => ac e3 e4 ((h.ad t v).mp (ac (sy e1) (sy e2) q)), fun q => ac e1 e2 ((h.ad t v).mpr (ac (sy e3) (sy e4) q))⟩, fun k k0 k1 => ?_, fun k k0 k1 => ?_⟩
  · rw [e1 i a (by omega), e1 j (by omega) c]; exact h.so i j a b c
  · rw [e4 k k0 k1]; exact h.rT k k0 k1
  · rw [e3 k k0 k1]; exact h.rD k k0 k1
/-- a person stays as it is where its cells do -/
theorem PX.cg {d d' : Dt} {x p : Int} (h : PX d x p) (h0 : ∀ j k, 0 ≤ j → j ≤ 6 → d' (x + j) k = d (x + j) k) (h1 : ∀ r, 1552 ≤ r → r ≤ 1564 → r ≠ 1558 → r ≠ 1559 → r ≤ 1560 → d' r p = d r p) (h2 : ∀ k, 0 ≤ k → k < 10 → d' 1558 (10 * p + k) = d 1558 (10 * p + k) ∧ d' 1559 (10 * p + k) = d 1559 (10 * p + k)) (h3 : ∀ r k, 1561 ≤ r → r ≤ 1564 → 0 ≤ k → k < 12 → d' r (12 * p + k) = d r (12 * p + k)) : PX d' x p := by
  have x0 : ∀ k, d' x k = d x k := fun k => by have := h0 0 k (by decide) (by decide); rwa [Int.add_zero] at this
  unfold PX at h ⊢
  simp only [x0, h1 1552 (by decide) (by decide) (by decide) (by decide) (by decide), h1 1553 (by decide) (by decide) (by decide) (by decide) (by decide), h1 1554 (by decide) (by decide) (by decide) (by decide) (by decide), h1 1555 (by decide) (by decide) (by decide) (by decide) (by decide), h1 1556 (by decide) (by decide) (by decide) (by decide) (by decide), h1 1557 (by decide) (by decide) (by decide) (by decide) (by decide), h1 1560 (by decide) (by decide) (by decide) (by decide) (by decide)]
  obtain ⟨a, b, ⟨c1, c2, c3⟩, e1, e2, e3⟩ := h
  refine ⟨a, b, ⟨c1, c2, c3.cg (fun k _ _ => h0 1 k (by decide) (by decide)) (fun k _ _ => h0 2 k (by decide) (by decide)) (fun k k0 k1 => (h2 k k0 (by omega)).1) (fun k k0 k1 => (h2 k k0 (by omega)).2)⟩, e1, e2, fun k k0 k1 => ?_⟩
  rw [h0 3 k (by decide) (by decide), h0 4 k (by decide) (by decide), h0 5 k (by decide) (by decide), h0 6 k (by decide) (by decide), h3 1561 k (by decide) (by decide) k0 (by omega), h3 1562 k (by decide) (by decide) k0 (by omega), h3 1563 k (by decide) (by decide) k0 (by omega), h3 1564 k (by decide) (by decide) k0 (by omega)]
  exact e3 k k0 k1
/-! 4: persons -/
def R4 (m d : Dt) : Prop := d 1 5 = d 1545 10 ∧ (0 ≤ d 1 5 ∧ d 1 5 ≤ 60) ∧ (∀ p, 0 ≤ p → p < d 1 5 → PT m (d 9 p) ∧ PX d (d 9 p) p) ∧ (∀ p q, 0 ≤ p → p < q → q < d 1 5 → d 9 p + 7 ≤ d 9 q) ∧ ∀ p, d 1 5 ≤ p → p < 60 → d 1557 p = 0 ∧ d 1560 p = 0
theorem mo_4 {m : Dt} {x : Int} (h : x = 9 ∨ (1552 ≤ x ∧ x ≤ 1564)) (y : Int) : mo m x y = 4 := by
  have : x = 9 ∨ x = 1552 ∨ x = 1553 ∨ x = 1554 ∨ x = 1555 ∨ x = 1556 ∨ x = 1557 ∨ x = 1558 ∨ x = 1559 ∨ x = 1560 ∨ x = 1561 ∨ x = 1562 ∨ x = 1563 ∨ x = 1564 := by omega
  rcases this with rfl | rfl | rfl | rfl | rfl | rfl | rfl | rfl | rfl | rfl | rfl | rfl | rfl | rfl <;> rfl
theorem R4.cg {m d d' : Dt} {T : List Int} (h : R4 m d) (hs : Sm m T d d') (hT : 4 ∉ T := by decide) : R4 m d' := by
  have e1 : d' 1 5 = d 1 5 := hs 1 5 hT
  have e2 : d' 1545 10 = d 1545 10 := hs 1545 10 hT
  have e3 : ∀ x k, (x = 9 ∨ (1552 ≤ x ∧ x ≤ 1564)) → d' x k = d x k := fun x k a => hs x k (by rw [mo_4 a]; exact hT)
  obtain ⟨a, b, c, e, f⟩ := h
  refine ⟨by rw [e1, e2]; exact a, by rw [e1]; exact b, fun p p0 p1 => ?_, fun p q p0 pq q1 => ?_, fun p p0 p1 => ?_⟩
  · rw [e1] at p1
    rw [e3 9 p (by omega)]
    obtain ⟨c1, c2⟩ := c p p0 p1
    refine ⟨c1, c2.cg (fun j k j0 j1 => hs _ _ (by rw [c1.md j0 j1]; exact hT)) (fun r _ _ _ _ _ => e3 r p (by omega)) (fun k _ _ => ⟨e3 _ _ (by omega), e3 _ _ (by omega)⟩) (fun r k _ _ _ _ => e3 _ _ (by omega))⟩
  · rw [e1] at q1
    rw [e3 9 p (by omega), e3 9 q (by omega)]
    exact e p q p0 pq q1
  · rw [e1] at p0
    rw [e3 1557 p (by omega), e3 1560 p (by omega)]
    exact f p p0 p1
theorem R4.mg {m m' d : Dt} (h : R4 m d) (hm : ∀ x, m x 3 ≠ 0 → m' x 3 = m x 3) : R4 m' d := by
  obtain ⟨a, b, c, e, f⟩ := h
  refine ⟨a, b, fun p p0 p1 => ⟨?_, (c p p0 p1).2⟩, e, f⟩
  obtain ⟨⟨c1, c2, c3⟩, _⟩ := c p p0 p1
  refine ⟨c1, by rw [hm _ (by rw [c2]; decide)]; exact c2, fun j j0 j1 => ?_⟩
  have := c3 j j0 j1
  rw [hm _ (by rw [this]; decide)]
  exact this
/-- others than one are away from its cells -/
theorem R4.far {m d : Dt} (h : R4 m d) {p q : Int} (p0 : 0 ≤ p) (p1 : p < d 1 5) (q0 : 0 ≤ q) (q1 : q < d 1 5) (hn : q ≠ p) : d 9 q + 7 ≤ d 9 p ∨ d 9 p + 7 ≤ d 9 q := by
  rcases Int.lt_or_gt_of_ne hn with e | e
  · exact Or.inl (h.2.2.2.1 q p q0 e p1)
  · exact Or.inr (h.2.2.2.1 p q p0 e q1)
/-- what changes one person's cells only -/
theorem R4.one {m d d' : Dt} (h : R4 m d) {p : Int} (p0 : 0 ≤ p) (p1 : p < d 1 5) (hX : PX d' (d 9 p) p) (g0 : d' 1 5 = d 1 5) (g1 : d' 1545 10 = d 1545 10) (g2 : ∀ k, d' 9 k = d 9 k) (g3 : ∀ x k, 1666 ≤ x → x < d 9 p ∨ d 9 p + 7 ≤ x → d' x k = d x k) (g4 : ∀ r k, 1552 ≤ r → r ≤ 1564 → r ≠ 1558 → r ≠ 1559 → r ≤ 1560 → k ≠ p → d' r k = d r k) (g5 : ∀ r k, r = 1558 ∨ r = 1559 → k < 10 * p ∨ 10 * p + 10 ≤ k → d' r k = d r k) (g6 : ∀ r k, 1561 ≤ r → r ≤ 1564 → k < 12 * p ∨ 12 * p + 12 ≤ k → d' r k = d r k) : R4 m d' := by
  have h' := h
  obtain ⟨a, b, c, e, f⟩ := h
  refine ⟨by rw [g0, g1]; exact a, by rw [g0]; exact b, fun q q0 q1 => ?_, fun q r q0 qr r1 => ?_, fun q q0 q1 => ?_⟩
  · rw [g0] at q1
    rw [g2]
    obtain ⟨c1, c2⟩ := c q q0 q1
    refine ⟨c1, ?_⟩
    by_cases hn : q = p
    · subst hn; exact hX
    · have w := h'.far p0 p1 q0 q1 hn
      have w1 := c1.1
      refine c2.cg (fun j k j0 j1 => g3 _ k (by omega) (by omega)) (fun r a1 a2 a3 a4 a5 => g4 r q a1 a2 a3 a4 a5 hn) (fun k k0 k1 => ⟨g5 _ _ (by omega) (by omega), g5 _ _ (by omega) (by omega)⟩) (fun r k a1 a2 k0 k1 => g6 r _ a1 a2 (by omega))
  · rw [g0] at r1
    rw [g2, g2]; exact e q r q0 qr r1
  · rw [g0] at q0
    rw [g4 1557 q (by decide) (by decide) (by decide) (by decide) (by decide) (by omega), g4 1560 q (by decide) (by decide) (by decide) (by decide) (by decide) (by omega)]
    exact f q q0 q1
