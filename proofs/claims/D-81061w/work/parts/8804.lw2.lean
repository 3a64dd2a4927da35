/-! LEVEL 3: a law as it is read: what holds between its clauses -/
set_option maxRecDepth 100000
set_option maxHeartbeats 4000000
/-- a contest's row is the same -/
def WY (A : Int) (x y : Dt) (p r : Int) : Prop := (x p 0 = y 1577 r ∧ 0 ≤ x p 0 ∧ x p 0 < A) ∧ (x p 1 = y 1577 (r + 1) ∧ 1 ≤ x p 1 ∧ x p 1 ≤ 9) ∧ (x p 2 = y 1577 (r + 2) ∧ 0 ≤ x p 2 ∧ x p 2 ≤ 14) ∧ (x p 3 = y 1577 (r + 3) ∧ 0 ≤ x p 3 ∧ x p 3 ≤ 8 ∧ (x p 2 ≠ 14 → x p 3 ≤ 1)) ∧ (x p 4 = y 1577 (r + 4) ∧ ((y 1577 (r + 5) = 0 ∧ x p 4 = 0 ∧ x p 5 = 1) ∨ (x p 5 = y 1577 (r + 5) ∧ 1 ≤ x p 5 ∧ x p 5 ≤ 1000 ∧ 0 ≤ x p 4 ∧ x p 4 < x p 5))) ∧ (x p 6 = y 1577 (r + 6) ∧ (x p 6 = 0 ∨ x p 6 = 1)) ∧ (x p 7 = y 1577 (r + 7) ∧ (x p 7 = 0 ∨ x p 7 = 1) ∧ (x p 7 = 1 → x p 2 = 14))
theorem WY.cg {A : Int} {x y x' y' : Dt} {p r : Int} (h : WY A x y p r) (hx : ∀ q, 0 ≤ q → q ≤ 7 → x' p q = x p q) (hy : ∀ q, r ≤ q → q ≤ r + 7 → y' 1577 q = y 1577 q) : WY A x' y' p r := by
  unfold WY at h ⊢
  rw [hx 0 (by omega) (by omega), hx 1 (by omega) (by omega), hx 2 (by omega) (by omega), hx 3 (by omega) (by omega), hx 4 (by omega) (by omega), hx 5 (by omega) (by omega), hx 6 (by omega) (by omega), hx 7 (by omega) (by omega), hy r (by omega) (by omega), hy (r + 1) (by omega) (by omega), hy (r + 2) (by omega) (by omega), hy (r + 3) (by omega) (by omega), hy (r + 4) (by omega) (by omega), hy (r + 5) (by omega) (by omega), hy (r + 6) (by omega) (by omega), hy (r + 7) (by omega) (by omega)]
  exact h
def DY (L : Int) (x y : Dt) : Prop := ∀ k, 0 ≤ k → k < 4 → x (L + 1) k = y 1576 k ∧ 0 ≤ x (L + 1) k ∧ x (L + 1) k ≤ 36524 ∧ (k < 3 → x (L + 1) k ≤ x (L + 1) (k + 1))
theorem DY.cg {L : Int} {x y x' y' : Dt} (h : DY L x y) (hx : ∀ q, 0 ≤ q → q < 4 → x' (L + 1) q = x (L + 1) q) (hy : ∀ q, 0 ≤ q → q < 4 → y' 1576 q = y 1576 q) : DY L x' y' := fun k k0 k1 => by
  obtain ⟨a, b, c, e⟩ := h k k0 k1
  rw [hx k k0 k1, hy k k0 k1]
  refine ⟨a, b, c, fun q => ?_⟩
  rw [hx (k + 1) (by omega) (by omega)]
  exact e q
/-- what holds in any case; ex: the clause that is being read -/
def LB (L A : Int) (ex : Int) (x y : Dt) (j : Nat) : Prop := (x 10 10 = L ∧ x 3 1 = A ∧ y 1545 3 = A) ∧ TR x y ∧ (x 10 12 = y 1545 49 ∧ (x 10 12 = 0 ∨ x 10 12 = 1)) ∧ (0 ≤ y 1545 50 ∧ y 1545 50 ≤ 255) ∧ (∀ w, 0 ≤ w → w < 7 → x 12 w = tb (y 1545 50) w) ∧ (ex ≠ 7 → tb (y 1545 50) 7 = if 0 < x L 14 then 1 else 0) ∧ (x L 14 = y 1576 9 ∧ 0 ≤ x L 14 ∧ x L 14 ≤ (j : Int)) ∧ (x L 1 = y 1576 4 ∧ (x L 1 = 0 ∨ x L 1 = 1)) ∧ (x L 2 = y 1576 8 ∧ (x L 2 = 0 ∨ x L 2 = 1))
/-- what holds if nothing is wrong -/
def LC (L A : Int) (ex : Int) (x y : Dt) : Prop := x L 14 ≤ 6 ∧ ((x L 3 = y 1576 5 ∧ 0 ≤ x L 3 ∧ x L 3 ≤ 20) ∧ (x L 4 = y 1576 6 ∧ 1 ≤ x L 4 ∧ x L 4 ≤ 20) ∧ (x L 5 = y 1576 7 ∧ 0 ≤ x L 5 ∧ x L 5 ≤ 3) ∧ (x 12 4 = 0 → x L 4 = 1)) ∧ (ex ≠ 0 → x 12 0 = 1 → DY L x y) ∧ (∀ c, 0 ≤ c → c < x L 14 → WY A x y (L + 13 + c) (8 * c)) ∧ (∀ k, 0 ≤ k → k < x 10 13 → TS L A x y k) ∧ (ex ≠ 2 → CN L (L + 2) 0 x y ∧ x (L + 2) 3 ≤ x 10 13) ∧ (ex ≠ 3 → CN L (L + 4) 1 x y ∧ x (L + 4) 3 ≤ x 10 13)
def LW (t : Int → Int) (n : Int) (N : Nat) (L A ex : Int) (x y : Dt) (j : Nat) : Prop := RL t n N x y j ∧ LB L A ex x y j ∧ (x 10 9 = -1 → LC L A ex x y)
/-- the frames of a law's reading -/
def FLX (L : Int) (a x : Dt) : Prop := ∀ p q, ¬ (p = 10 ∧ 5 ≤ q ∧ q ≤ 16) → p ≠ 11 → p ≠ 12 → p ≠ 13 → ¬ (L ≤ p ∧ p ≤ L + 18) → x p q = a p q
def FLM (b y : Dt) : Prop := ∀ p q, ¬ (p = 1545 ∧ ((29 ≤ q ∧ q ≤ 35) ∨ q = 49 ∨ q = 50)) → ¬ (p = 1569 ∧ 0 ≤ q ∧ q < 8004) → ¬ (p = 1570 ∧ 0 ≤ q ∧ q ≤ 1) → ¬ (p = 1571 ∧ q = 0) → ¬ (1572 ≤ p ∧ p ≤ 1575 ∧ 0 ≤ q ∧ q ≤ 40) → ¬ (p = 1576 ∧ 0 ≤ q ∧ q ≤ 9) → ¬ (p = 1577 ∧ 0 ≤ q ∧ q < 48) → y p q = b p q
theorem FLX.refl {L : Int} {a : Dt} : FLX L a a := fun _ _ _ _ _ _ _ => rfl
theorem FLM.refl {b : Dt} : FLM b b := fun _ _ _ _ _ _ _ _ _ => rfl
theorem FLX.trans {L : Int} {a x z : Dt} (h : FLX L a x) (h' : FLX L x z) : FLX L a z := fun p q u1 u2 u3 u4 u5 => (h' p q u1 u2 u3 u4 u5).trans (h p q u1 u2 u3 u4 u5)
theorem FLM.trans {b y z : Dt} (h : FLM b y) (h' : FLM y z) : FLM b z := fun p q u1 u2 u3 u4 u5 u6 u7 => (h' p q u1 u2 u3 u4 u5 u6 u7).trans (h p q u1 u2 u3 u4 u5 u6 u7)
theorem FX.fl {L : Int} {a x : Dt} (h : FX a x) : FLX L a x := fun p q u1 u2 _ _ _ => h p q (by omega) u2
theorem FM.fl {b y : Dt} (h : FM b y) : FLM b y := fun p q u1 _ _ _ _ _ _ => h p q (by omega)
def EL (L : Int) (a b x y : Dt) : Prop := FLX L a x ∧ FLM b y ∧ x 11 0 = y 1545 30 ∧ 0 ≤ x 11 0 ∧ x 11 0 ≤ 4000
theorem EL.of {L : Int} {a b x y x' y' : Dt} (h1 : FLX L a x) (h2 : FLM b y) (h : EL L x y x' y') : EL L a b x' y' := ⟨h1.trans h.1, h2.trans h.2.1, h.2.2⟩
theorem Ef.el {L : Int} {a b x y : Dt} (h : Ef a b x y) : EL L a b x y := ⟨h.1.fl, h.2.1.fl, h.2.2⟩
section LW2
variable {t : Int → Int} {n : Int} {N : Nat} {L A ex : Int} {x y x' y' : Dt} {j j' : Nat}
/-- where nothing of it changes -/
theorem LW.cg (h : LW t n N L A ex x y j) (hR : RL t n N x' y' j') (hj : j ≤ j') (hw : Wm x x') (hx : ∀ p q, (p = 3 ∧ q = 1) ∨ (p = 10 ∧ (q = 10 ∨ q = 12 ∨ q = 13)) ∨ p = 12 ∨ (L ≤ p ∧ p ≤ L + 18) → x' p q = x p q) (hy : ∀ p q, (p = 1545 ∧ (q = 3 ∨ q = 49 ∨ q = 50)) ∨ (1569 ≤ p ∧ p ≤ 1577) → y' p q = y p q) : LW t n N L A ex x' y' j' := by
  obtain ⟨-, h2, h3⟩ := h
  have e9 : x' 10 9 = -1 → x 10 9 = -1 := fun q => by
    rcases Int.decEq (x 10 9) (-1) with r | r
    · exact absurd q (hw r).1
    · exact r
  refine ⟨hR, ?_, fun q => ?_⟩
  · obtain ⟨⟨a1, a2, a3⟩, b, c, d, e, f, g, i, k⟩ := h2
    refine ⟨⟨by rw [hx _ _ (by omega)]; exact a1, by rw [hx _ _ (by omega)]; exact a2, by rw [hy _ _ (by omega)]; exact a3⟩, ⟨by rw [hx _ _ (by omega)]; exact b.1, ?_⟩, by rw [hx _ _ (by omega), hy _ _ (by omega)]; exact c, by rw [hy _ _ (by omega)]; exact d, fun w w0 w1 => by rw [hx _ _ (by omega), hy _ _ (by omega)]; exact e w w0 w1, fun z => by rw [hy _ _ (by omega), hx _ _ (by omega)]; exact f z, ?_, by rw [hx _ _ (by omega), hy _ _ (by omega)]; exact i, by rw [hx _ _ (by omega), hy _ _ (by omega)]; exact k⟩
    · rw [hx _ _ (by omega), hy _ _ (by omega)]
      rcases b.2 with r | r
      · exact Or.inl r
      · exact Or.inr ⟨r.1, r.2.1, (hw r.2.2).1⟩
    · rw [hx _ _ (by omega), hy _ _ (by omega)]; omega
  · obtain ⟨a, b, c, d, e, f, g⟩ := h3 (e9 q)
    refine ⟨by rw [hx _ _ (by omega)]; exact a, by rw [hx L 3 (by omega), hx L 4 (by omega), hx L 5 (by omega), hx 12 4 (by omega), hy _ _ (by omega), hy _ _ (by omega), hy _ _ (by omega)]; exact b, fun z z2 => ?_, fun k k0 k1 => ?_, fun k k0 k1 => ?_, fun z => ?_, fun z => ?_⟩
    · rw [hx _ _ (by omega)] at z2
      exact (c z z2).cg (fun q _ _ => hx _ _ (by omega)) (fun q _ _ => hy _ _ (by omega))
    · rw [hx _ _ (by omega)] at k1
      have := h2.2.2.2.2.2.2.1
      exact (d k k0 k1).cg (fun q _ _ => hx _ _ (by omega)) (fun q _ _ => hy _ _ (by omega))
    · rw [hx _ _ (by omega)] at k1
      exact (e k k0 k1).cg (fun p _ _ => hx _ _ (by omega)) (fun p _ _ => hy _ _ (by omega))
    · have := f z
      rw [hx (L + 2) 3 (by omega), hx 10 13 (by omega)]
      exact ⟨this.1.cg (fun q _ _ => hx _ _ (by omega)) (fun q _ _ => hx _ _ (by omega)) (fun q _ _ => hx _ _ (by omega)) (hy _ _ (by omega)) (fun q _ _ => hy _ _ (by omega)), this.2⟩
    · have := g z
      rw [hx (L + 4) 3 (by omega), hx 10 13 (by omega)]
      exact ⟨this.1.cg (fun q _ _ => hx _ _ (by omega)) (fun q _ _ => hx _ _ (by omega)) (fun q _ _ => hx _ _ (by omega)) (hy _ _ (by omega)) (fun q _ _ => hy _ _ (by omega)), this.2⟩
theorem LW.ss (h : LW t n N L A ex x y j) (hL : 15 ≤ L) (hs : SS t n N x y x' y' j') (hj : j ≤ j') : LW t n N L A ex x' y' j' := h.cg hs.2.2.2 hj hs.2.2.1 (fun p q u => hs.1 p q (by omega) (by omega)) (fun p q u => hs.2.1 p q (by omega))
end LW2
