/-! LEVEL 3: a contest of a law: words of a row, lists -/
set_option maxRecDepth 100000
set_option maxHeartbeats 4000000
/-- M tries one word after the other -/
theorem mw_loop {ρ : Type} {t : Int → Int} {n : Int} {N : Nat} {b : Dt} {i : Nat} (h : LM t n N b i) {f : Dt × Int × Int → Option ((Dt × Int × Int) ⊕ ρ)} {R : Dt → Int → Option ρ} {name : Int → Int} {w0 cnt : Int} {c : Int → Prop} [∀ k, Decidable (c k)] (hc : ∀ k, c k ↔ cnt ≤ k) (hcnt : 0 ≤ cnt ∧ cnt ≤ 20) (hw0 : 0 ≤ w0 ∧ w0 + cnt ≤ 55) (hname : ∀ k, 0 ≤ k → k < cnt → name k = -(10 + 2 * (w0 + k)))
    (hf : ∀ d v k, f (d, v, k) = if c k then up (R d v) else if 0 ≤ v then up (R d v) else b2 (fX11_mayWord d (name k)) fun d' x => if x = 0 then lv (w32 (k + 1)) fun z => some (.inl (d', -1, z)) else lv (w32 (k + 1)) fun z => some (.inl (d', k, z))) : loop f (b, -1, 0) = if w0 ≤ wd t n i ∧ wd t n i < w0 + cnt then R (nxb b) (wd t n i - w0) else R b (-1) := by
  have key : ∀ m : Nat, ∀ k : Int, m = (cnt - k).toNat → 0 ≤ k → k ≤ cnt → ¬ (w0 ≤ wd t n i ∧ wd t n i < w0 + k) → loop f (b, -1, k) = if w0 ≤ wd t n i ∧ wd t n i < w0 + cnt then R (nxb b) (wd t n i - w0) else R b (-1) := by
    intro m
    induction m with
    | zero =>
      intro k hm k0 k1 hno
      have : k = cnt := by omega
      subst this
      rw [loop_kt, hf, if_pos ((hc k).mpr (Int.le_refl _)), kt_up, if_neg hno]
    | succ m ih =>
      intro k hm k0 k1 hno
      rw [loop_kt, hf, if_neg (fun z => by have := (hc k).mp z; omega), if_neg (by decide), hname k k0 (by omega), h.may (w := w0 + k) (by omega) rfl, b2_s]
      by_cases q : wd t n i = w0 + k
      · rw [if_pos q]
        dsimp only
        rw [one_if, lv_e, kt_in, loop_kt, hf, if_pos (show w0 ≤ wd t n i ∧ wd t n i < w0 + cnt by omega), show wd t n i - w0 = k by omega]
        by_cases z : c (w32 (k + 1))
        · rw [if_pos z, kt_up]
        · rw [if_neg z, if_pos k0, kt_up]
      · rw [if_neg q]
        dsimp only
        rw [zer_if, lv_e, kt_in, w32_o (by omega)]
        exact ih (k + 1) (by omega) (by omega) (by omega) (by omega)
  exact key cnt.toNat 0 (by omega) (by omega) (by omega) (by omega)
theorem ruName {k : Int} (h : 0 ≤ k) (h' : k < 15) : fX11_ruleName k = -(10 + 2 * (31 + k)) := by
  unfold fX11_ruleName
  repeat' split
  all_goals omega
theorem waName {k : Int} (h : 0 ≤ k) (h' : k < 9) : fX11_wayName k = -(10 + 2 * (46 + k)) := by
  unfold fX11_wayName
  repeat' split
  all_goals omega
theorem clName {k : Int} (h : 0 ≤ k) (h' : k < 8) : fX11_clauseName k = -(10 + 2 * k) := by
  unfold fX11_clauseName fX11_clauseName_80
  repeat' split
  all_goals omega
/-- the frames of a contest: p X's cell, r M's row -/
def FKX (L p : Int) (a x : Dt) : Prop := ∀ u v, ¬ (u = 10 ∧ ((5 ≤ v ∧ v ≤ 9) ∨ v = 12)) → u ≠ 11 → ¬ (u = L ∧ v = 14) → ¬ (u = p ∧ 0 ≤ v ∧ v ≤ 7) → x u v = a u v
def FKM (r : Int) (b y : Dt) : Prop := ∀ u v, ¬ (u = 1545 ∧ ((29 ≤ v ∧ v ≤ 35) ∨ v = 49)) → ¬ (u = 1576 ∧ v = 9) → ¬ (u = 1577 ∧ r ≤ v ∧ v ≤ r + 7) → y u v = b u v
/-- on the way -/
def KJ (t : Int → Int) (n : Int) (N : Nat) (L p r : Int) (a b : Dt) (i : Nat) (x y : Dt) (j : Nat) : Prop := RL t n N x y j ∧ i ≤ j ∧ FKX L p a x ∧ FKM r b y ∧ Wm a x ∧ (x 10 12 = y 1545 49 ∧ (x 10 12 = 0 ∨ x 10 12 = 1))
section KON
variable {t : Int → Int} {n : Int} {N : Nat} {L p r A : Int} {a b : Dt} {i : Nat} {x y x' y' : Dt} {j j' : Nat}
theorem KJ.ss (h : KJ t n N L p r a b i x y j) (hs : SS t n N x y x' y' j') (hj : j ≤ j') (hp : 15 ≤ p ∧ 15 ≤ L) : KJ t n N L p r a b i x' y' j' := by
  obtain ⟨h1, h2, h3, h4, h5, h6⟩ := h
  obtain ⟨s1, s2, s3, s4⟩ := hs
  exact ⟨s4, by omega, fun u v u1 u2 u3 u4 => by rw [s1 u v (by omega) u2]; exact h3 u v u1 u2 u3 u4, fun u v u1 u2 u3 => by rw [s2 u v (by omega)]; exact h4 u v u1 u2 u3, h5.trans s3, by rw [s1 _ _ (by omega) (by omega), s2 _ _ (by omega)]; exact h6⟩
theorem KJ.ef (h : KJ t n N L p r a b i x y j) (hp : L + 13 ≤ p ∧ p ≤ L + 18) (hr : 0 ≤ r ∧ r ≤ 40) (he : Ef x y x' y') : EL L a b x' y' := by
  obtain ⟨h1, h2, h3, h4, h5, h6⟩ := h
  exact ⟨fun u v u1 u2 u3 u4 u5 => by rw [he.1 u v (by omega) u2]; exact h3 u v (by omega) u2 (by omega) (by omega), fun u v u1 u2 u3 u4 u5 u6 u7 => by rw [he.2.1 u v (by omega)]; exact h4 u v (by omega) (by omega) (by omega), he.2.2⟩
/-- X and M each keep a number in the contest's row -/
theorem KJ.sto (h : KJ t n N L p r a b i x y j) (hp : L + 13 ≤ p ∧ 15 ≤ L) {q v q' v' : Int} (hq : 0 ≤ q ∧ q ≤ 7) (hq' : r ≤ q' ∧ q' ≤ r + 7) : KJ t n N L p r a b i (st x p q v) (st y 1577 q' v') j := by
  obtain ⟨h1, h2, h3, h4, h5, h6⟩ := h
  have ex : ∀ u w, ¬ (u = p ∧ w = q) → st x p q v u w = x u w := fun u w z => by unfold st; rw [if_neg z]
  have ey : ∀ u w, ¬ (u = 1577 ∧ w = q') → st y 1577 q' v' u w = y u w := fun u w z => by unfold st; rw [if_neg z]
  exact ⟨h1.cg2 (fun u w z => ex _ _ (by omega)) (fun u w z => ey _ _ (by omega)), h2, fun u w u1 u2 u3 u4 => by rw [ex _ _ (by omega)]; exact h3 u w u1 u2 u3 u4, fun u w u1 u2 u3 => by rw [ey _ _ (by omega)]; exact h4 u w u1 u2 u3, fun z => by rw [ex _ _ (by omega)]; exact h5 z, by rw [ex _ _ (by omega), ey _ _ (by omega)]; exact h6⟩
theorem KJ.stX (h : KJ t n N L p r a b i x y j) (hp : L + 13 ≤ p ∧ 15 ≤ L) {q v : Int} (hq : 0 ≤ q ∧ q ≤ 7) : KJ t n N L p r a b i (st x p q v) y j := by
  obtain ⟨h1, h2, h3, h4, h5, h6⟩ := h
  have ex : ∀ u w, ¬ (u = p ∧ w = q) → st x p q v u w = x u w := fun u w z => by unfold st; rw [if_neg z]
  exact ⟨h1.cg2 (fun u w z => ex _ _ (by omega)) (fun u w z => rfl), h2, fun u w u1 u2 u3 u4 => by rw [ex _ _ (by omega)]; exact h3 u w u1 u2 u3 u4, h4, fun z => by rw [ex _ _ (by omega)]; exact h5 z, by rw [ex _ _ (by omega)]; exact h6⟩
theorem KJ.stM (h : KJ t n N L p r a b i x y j) {q' v' : Int} (hq' : r ≤ q' ∧ q' ≤ r + 7) : KJ t n N L p r a b i x (st y 1577 q' v') j := by
  obtain ⟨h1, h2, h3, h4, h5, h6⟩ := h
  have ey : ∀ u w, ¬ (u = 1577 ∧ w = q') → st y 1577 q' v' u w = y u w := fun u w z => by unfold st; rw [if_neg z]
  exact ⟨h1.cg2 (fun u w z => rfl) (fun u w z => ey _ _ (by omega)), h2, h3, fun u w u1 u2 u3 => by rw [ey _ _ (by omega)]; exact h4 u w u1 u2 u3, h5, by rw [ey _ _ (by omega)]; exact h6⟩
/-- area, seats, rule are there; p1: X's first place for this contest's number is told -/
def K3 (A p r : Int) (x y : Dt) : Prop := x 10 9 = -1 → (x p 0 = y 1577 r ∧ 0 ≤ x p 0 ∧ x p 0 < A) ∧ (x p 1 = y 1577 (r + 1) ∧ 1 ≤ x p 1 ∧ x p 1 ≤ 9)
theorem K3.cg (h : K3 A p r x y) (hw : Wm x x') (hx : x' p 0 = x p 0 ∧ x' p 1 = x p 1) (hy : y' 1577 r = y 1577 r ∧ y' 1577 (r + 1) = y 1577 (r + 1)) : K3 A p r x' y' := fun q => by
  have e9 : x 10 9 = -1 := by
    rcases Int.decEq (x 10 9) (-1) with z | z
    · exact absurd q (hw z).1
    · exact z
  rw [hx.1, hx.2, hy.1, hy.2]
  exact h e9
/-- lists: the end -/
theorem cp_level (h : KJ t n N L p r a b i x y j) (hp : L + 13 ≤ p ∧ p ≤ L + 18 ∧ 15 ≤ L) (hr : 0 ≤ r ∧ r ≤ 40) {o : Int} (ho : o = 0 ∨ o = 1) (hx6 : x p 6 = o) (hx7 : x p 7 = 0) (hy7 : y 1577 (r + 7) = 0) {Q : Int → Dt → Dt → Prop} (hQ : ∀ x' y' j', i ≤ j' → j ≤ j' → KJ t n N L p r a b i x' y' j' → Wm x x' → (∀ q, 0 ≤ q → q ≤ 5 → x' p q = x p q ∧ y' 1577 (r + q) = y 1577 (r + q)) → x' p 6 = o ∧ y' 1577 (r + 6) = o → (x' p 7 = y' 1577 (r + 7) ∧ (x' p 7 = 0 ∨ x' p 7 = 1)) → x' L 14 = x L 14 ∧ y' 1576 9 = y 1576 9 → Q 0 x' y') : CP (fX2_lists_105 x p) (fX11_takeLists_176 y r (r + 6) o) (EL L a b) Q := by
  have hR := h.1
  have hrr := hR.sp
  unfold fX2_lists_105 fX11_takeLists_176
  rw [ck_pos (by omega), sd_e]
  have h1 := h.stM (q' := r + 6) (v' := o) (by omega)
  have hy7' : st y 1577 (r + 6) o 1577 (r + 7) = 0 := by rw [st_nk (by omega)]; exact hy7
  have hy6' : st y 1577 (r + 6) o 1577 (r + 6) = o := st_eq _ _ _ _
  have hyq : ∀ q, 0 ≤ q → q ≤ 5 → st y 1577 (r + 6) o 1577 (r + q) = y 1577 (r + q) := fun q _ _ => st_nk (by omega)
  have hy9 : st y 1577 (r + 6) o 1576 9 = y 1576 9 := st_na (by decide)
  generalize st y 1577 (r + 6) o = y1 at *
  have hR1 := h1.1
  rw [hR1.1.isWd (w := 23) (by decide), hR1.2.1.isWd (w := 23) (by decide) (by decide), b1_s]
  by_cases q : wd t n j = 23
  · rw [if_pos q, one_if, one_if]
    have h12 := h1.2.2.2.2.2
    have lt := hR1.lt_w (by decide) q
    -- behind the blame
    have fin : ∀ x2 y2, KJ t n N L p r a b i x2 y2 j → Wm x x2 → (∀ u v, ¬ (u = 10 ∧ v = 9) → x2 u v = x u v) → (∀ u v, ¬ (u = 1545 ∧ v = 31) → y2 u v = y1 u v) → CP (sd x2 10 12 1 fun d12 => sd d12 p 7 1 fun d13 => bd (fX2_take d13) fun d14 => some (d14, some 0)) (fX11_takeLists_207 y2 r) (EL L a b) Q := fun x2 y2 h2 wm ex ey => by
      unfold fX11_takeLists_207
      rw [sd_e, sd_e, sd_e, lv_e, w32_o (by omega), ck_pos (by omega), sd_e, sd_e]
      have ex3 : ∀ u v, ¬ (u = 10 ∧ v = 12) → ¬ (u = p ∧ v = 7) → st (st x2 10 12 1) p 7 1 u v = x2 u v := fun u v z1 z2 => by unfold st; rw [if_neg z2, if_neg z1]
      have ey3 : ∀ u v, ¬ (u = 1545 ∧ v = 49) → ¬ (u = 1577 ∧ v = r + 7) → st (st y2 1545 49 1) 1577 (r + 7) 1 u v = y2 u v := fun u v z1 z2 => by unfold st; rw [if_neg z2, if_neg z1]
      have x312 : st (st x2 10 12 1) p 7 1 10 12 = 1 := by rw [st_na (by omega), st_eq]
      have x37 : st (st x2 10 12 1) p 7 1 p 7 = 1 := st_eq _ _ _ _
      have y349 : st (st y2 1545 49 1) 1577 (r + 7) 1 1545 49 = 1 := by rw [st_na (by omega), st_eq]
      have y37 : st (st y2 1545 49 1) 1577 (r + 7) 1 1577 (r + 7) = 1 := st_eq _ _ _ _
      generalize st (st x2 10 12 1) p 7 1 = x3 at *
      generalize st (st y2 1545 49 1) 1577 (r + 7) 1 = y3 at *
      obtain ⟨g1, g2, g3, g4, g5, g6⟩ := h2
      have h3 : KJ t n N L p r a b i x3 y3 j := ⟨g1.cg2 (fun u w z => ex3 _ _ (by omega) (by omega)) (fun u w z => ey3 _ _ (by omega) (by omega)), g2, fun u w u1 u2 u3 u4 => by rw [ex3 _ _ (by omega) (by omega)]; exact g3 u w u1 u2 u3 u4, fun u w u1 u2 u3 => by rw [ey3 _ _ (by omega) (by omega)]; exact g4 u w u1 u2 u3, fun z => by rw [ex3 _ _ (by omega) (by omega)]; exact g5 z, by rw [x312, y349]; exact ⟨rfl, Or.inr rfl⟩⟩
      refine CP.tk (h3.1.take lt) fun x4 s4 => ?_
      show CP _ (some (nxb y3, 1)) _ _
      have ij := h.2.1
      refine CP.ret (hQ x4 (nxb y3) (j + 1) (by omega) (by omega) (h3.ss s4 (by omega) (by omega)) (wm.trans fun z => ?_) (fun q q0 q1 => ⟨?_, ?_⟩) ⟨?_, ?_⟩ ⟨?_, ?_⟩ ⟨?_, ?_⟩)
      · have := s4.2.2.1
        unfold Wm at this
        rw [ex3 10 9 (by omega) (by omega)] at this
        exact this z
      · rw [s4.1 _ _ (by omega) (by omega), ex3 _ _ (by omega) (by omega), ex _ _ (by omega)]
      · rw [nx_at (by omega), ey3 _ _ (by omega) (by omega), ey _ _ (by omega)]; exact hyq q q0 q1
      · rw [s4.1 _ _ (by omega) (by omega), ex3 _ _ (by omega) (by omega), ex _ _ (by omega)]; exact hx6
      · rw [nx_at (by omega), ey3 _ _ (by omega) (by omega), ey _ _ (by omega)]; exact hy6'
      · rw [s4.1 _ _ (by omega) (by omega), x37, nx_at (by omega), y37]
      · rw [s4.1 _ _ (by omega) (by omega), x37]; exact Or.inr rfl
      · rw [s4.1 _ _ (by omega) (by omega), ex3 _ _ (by omega) (by omega), ex _ _ (by omega)]
      · rw [nx_at (by omega), ey3 _ _ (by omega) (by omega), ey _ _ (by omega)]; exact hy9
    unfold fX2_lists_127
    rw [h12.1, note_X, note_X, nt_1]
    by_cases z : y1 1545 49 = 0
    · rw [if_pos z, if_pos z, bd_s]
      exact fin x y1 h1 Wm.refl (fun _ _ _ => rfl) (fun _ _ _ => rfl)
    · have hr1 := hR1.sp
      rw [if_neg z, if_neg z, bd_s, lv_e, hr1.2.2.2.1, ck_pos (by omega), hr1.2.2.2.2, blame_M, bd_s, hr1.1]
      have nb := hR1.nb hr1.2.1
      exact fin _ _ (h1.ss nb.1 (Nat.le_refl _) (by omega)) nb.1.2.2.1 (fun u v z => nt_at z) (fun u v z => bl_at z)
  · rw [if_neg q, zer_if, zer_if]
    exact CP.ret (hQ x y1 j h.2.1 (Nat.le_refl _) h1 Wm.refl (fun q q0 q1 => ⟨rfl, hyq q q0 q1⟩) ⟨hx6, hy6'⟩ ⟨by rw [hx7, hy7'], Or.inl hx7⟩ ⟨rfl, hy9⟩)
/-- lists: OPEN -/
theorem cp_open (h : KJ t n N L p r a b i x y j) (hp : L + 13 ≤ p ∧ p ≤ L + 18 ∧ 15 ≤ L) (hr : 0 ≤ r ∧ r ≤ 40) (hx6 : x p 6 = 0) (hx7 : x p 7 = 0) (hy7 : y 1577 (r + 7) = 0) {Q : Int → Dt → Dt → Prop} (hQ : ∀ x' y' j', i ≤ j' → j ≤ j' → KJ t n N L p r a b i x' y' j' → Wm x x' → (∀ q, 0 ≤ q → q ≤ 5 → x' p q = x p q ∧ y' 1577 (r + q) = y 1577 (r + q)) → (x' p 6 = y' 1577 (r + 6) ∧ (x' p 6 = 0 ∨ x' p 6 = 1)) → (x' p 7 = y' 1577 (r + 7) ∧ (x' p 7 = 0 ∨ x' p 7 = 1)) → x' L 14 = x L 14 ∧ y' 1576 9 = y 1576 9 → Q 0 x' y') : CP (fX2_lists_87 x p) (fX11_takeLists_153 y r) (EL L a b) Q := by
  have hR := h.1
  unfold fX2_lists_87 fX11_takeLists_153
  rw [hR.1.isWd (w := 22) (by decide), hR.2.1.may (w := 22) (by decide) (by decide), b2_s, w32_o (by omega)]
  by_cases q : wd t n j = 22
  · rw [if_pos q, one_if, if_pos q]
    dsimp only
    rw [one_if, sd_e]
    have h1 := h.stX (q := 6) (v := 1) (by omega) (by omega)
    refine CP.tk (h1.1.take (hR.lt_w (by decide) q)) fun x1 s1 => ?_
    have ex : ∀ u v, ¬ (u = p ∧ v = 6) → st x p 6 1 u v = x u v := fun u v z => by unfold st; rw [if_neg z]
    refine cp_level (h1.ss s1 (by omega) (by omega)) hp hr (Or.inr rfl) ?_ ?_ ?_ (fun x' y' j' g1 g2 g3 g4 g5 g6 g7 g8 => hQ x' y' j' g1 (by omega) g3 (fun z => ?_) (fun q q0 q1 => ?_) ⟨by rw [g6.1, g6.2], Or.inr g6.1⟩ g7 ⟨?_, ?_⟩)
    · rw [s1.1 _ _ (by omega) (by omega), st_eq]
    · rw [s1.1 _ _ (by omega) (by omega), ex _ _ (by omega)]; exact hx7
    · rw [nx_at (by omega)]; exact hy7
    · have := s1.2.2.1
      unfold Wm at this
      rw [ex 10 9 (by omega)] at this
      have u := this z
      have v := g4 u.1
      exact ⟨v.1, by omega⟩
    · have := g5 q q0 q1
      rw [this.1, this.2, s1.1 _ _ (by omega) (by omega), ex _ _ (by omega), nx_at (by omega)]
      exact ⟨rfl, rfl⟩
    · rw [g8.1, s1.1 _ _ (by omega) (by omega), ex _ _ (by omega)]
    · rw [g8.2, nx_at (by omega)]
  · rw [if_neg q, zer_if, if_neg q]
    dsimp only
    rw [zer_if]
    exact cp_level h hp hr (Or.inl rfl) hx6 hx7 hy7 (fun x' y' j' g1 g2 g3 g4 g5 g6 g7 g8 => hQ x' y' j' g1 g2 g3 g4 g5 ⟨by rw [g6.1, g6.2], Or.inl g6.1⟩ g7 g8)
/-- what lists leave -/
def LsQ (t : Int → Int) (n : Int) (N : Nat) (L p r : Int) (a b : Dt) (i : Nat) (x y : Dt) (j : Nat) (x' y' : Dt) (j' : Nat) : Prop := j ≤ j' ∧ KJ t n N L p r a b i x' y' j' ∧ Wm x x' ∧ (∀ q, 0 ≤ q → q ≤ 2 → x' p q = x p q ∧ y' 1577 (r + q) = y 1577 (r + q)) ∧ (x' p 3 = y' 1577 (r + 3) ∧ 0 ≤ x' p 3 ∧ x' p 3 ≤ 8) ∧ (x' 10 9 = -1 → (x' p 4 = y' 1577 (r + 4) ∧ ((y' 1577 (r + 5) = 0 ∧ x' p 4 = 0 ∧ x' p 5 = 1) ∨ (x' p 5 = y' 1577 (r + 5) ∧ 1 ≤ x' p 5 ∧ x' p 5 ≤ 1000 ∧ 0 ≤ x' p 4 ∧ x' p 4 < x' p 5)))) ∧ (x' p 6 = y' 1577 (r + 6) ∧ (x' p 6 = 0 ∨ x' p 6 = 1)) ∧ (x' p 7 = y' 1577 (r + 7) ∧ (x' p 7 = 0 ∨ x' p 7 = 1)) ∧ x' L 14 = x L 14 ∧ y' 1576 9 = y 1576 9
theorem cp_lists (h : KJ t n N L p r a b i x y j) (hp : L + 13 ≤ p ∧ p ≤ L + 18 ∧ 15 ≤ L) (hr : 0 ≤ r ∧ r ≤ 40) (hx : x p 4 = 0 ∧ x p 5 = 1 ∧ x p 6 = 0 ∧ x p 7 = 0) (hy : ∀ q, 4 ≤ q → q ≤ 7 → y 1577 (r + q) = 0) : CP (fX2_lists x p) (fX11_takeLists y r) (EL L a b) (fun _ x' y' => ∃ j', LsQ t n N L p r a b i x y j x' y' j') := by
  have hR := h.1
  have hl : fX11_takeLists y r = if 46 ≤ wd t n j ∧ wd t n j < 46 + 9 then fX11_takeLists_37 (nxb y) r (wd t n j - 46) else fX11_takeLists_37 y r (-1) := by
    unfold fX11_takeLists fX11_takeLists_4
    exact mw_loop hR.2.1 (f := fX11_takeLists_4f r) (R := fun d v => fX11_takeLists_37 d r v) (c := fun k => 8 < k) (fun k => by omega) (by decide) (by decide) (fun k k0 k1 => waName k0 k1) (fun d v k => rfl)
  rw [hl]
  unfold fX2_lists
  rw [hR.1.oneOf (by decide) (by decide)]
  by_cases q : 46 ≤ wd t n j ∧ wd t n j ≤ 54
  · rw [if_pos q, if_pos (by omega)]
    show CP (bx (bd _ _) th _) _ _ _
    rw [bx_bd]
    refine CP.tk (hR.take (hR.lt_w (by omega) rfl)) fun x1 s1 => ?_
    rw [bx_s]
    have h1 := (h.ss s1 (by omega) (by omega)).sto (by omega) (q := 3) (v := wd t n j - 46) (q' := r + 3) (v' := wd t n j - 46) (by omega) (by omega)
    unfold fX11_takeLists_37
    rw [if_pos (by omega), lv_e, w32_o (by omega), ck_pos (by omega), sd_e, sd_e]
    have ex : ∀ u v, ¬ (u = p ∧ v = 3) → st x1 p 3 (wd t n j - 46) u v = x1 u v := fun u v z => by unfold st; rw [if_neg z]
    have ey : ∀ u v, ¬ (u = 1577 ∧ v = r + 3) → st (nxb y) 1577 (r + 3) (wd t n j - 46) u v = nxb y u v := fun u v z => by unfold st; rw [if_neg z]
    have ex3 : st x1 p 3 (wd t n j - 46) p 3 = wd t n j - 46 := st_eq _ _ _ _
    have ey3 : st (nxb y) 1577 (r + 3) (wd t n j - 46) 1577 (r + 3) = wd t n j - 46 := st_eq _ _ _ _
    have exa : ∀ u v, u ≠ 10 → u ≠ 11 → ¬ (u = p ∧ v = 3) → st x1 p 3 (wd t n j - 46) u v = x u v := fun u v z1 z2 z3 => by rw [ex _ _ z3, s1.1 _ _ (by omega) z2]
    have eya : ∀ u v, u ≠ 1545 → ¬ (u = 1577 ∧ v = r + 3) → st (nxb y) 1577 (r + 3) (wd t n j - 46) u v = y u v := fun u v z1 z3 => by rw [ey _ _ z3, nx_at (by omega)]
    have wm0 : Wm x (st x1 p 3 (wd t n j - 46)) := fun z => by rw [ex 10 9 (by omega)]; exact s1.2.2.1 z
    generalize st x1 p 3 (wd t n j - 46) = x2 at *
    generalize st (nxb y) 1577 (r + 3) (wd t n j - 46) = y2 at *
    have hR2 := h1.1
    rw [hR2.1.isWd (w := 21) (by decide), hR2.2.1.may (w := 21) (by decide) (by decide), b2_s]
    by_cases q21 : wd t n (j + 1) = 21
    · rw [if_pos q21, one_if, if_pos q21]
      dsimp only
      rw [one_if]
      refine CP.tk (hR2.take (hR2.lt_w (by decide) q21)) fun x3 s3 => ?_
      have h3 := h1.ss s3 (by omega) (by omega)
      have r3 := h3.1.sp
      rw [lv_e, r3.1]
      refine (cp_number h3.1).bx (fun x' y' e => ?_) (fun v1 x4 y4 q4 => ?_)
      · rw [zer_if, wp_some]; exact ⟨rfl, h3.ef (by omega) hr e⟩
      · rw [one_if, q4.2.2.1, q4.2.2.2.1, lv_e, lv_e, sd_e]
        have h4 := (h3.ss q4.1 (by omega) (by omega)).stX (by omega) (q := 4) (v := v1) (by omega)
        refine (cp_sign h4.1 g47).bx (fun x' y' e => ?_) (fun _ x5 y5 q5 => ?_)
        · rw [zer_if, wp_some]; exact ⟨rfl, h4.ef (by omega) hr e⟩
        · rw [one_if]
          have h5 := h4.ss q5.1 (by omega) (by omega)
          refine (cp_number h5.1).bx (fun x' y' e => ?_) (fun v2 x6 y6 q6 => ?_)
          · rw [zer_if, wp_some]; exact ⟨rfl, h5.ef (by omega) hr e⟩
          · rw [one_if, q6.2.2.1, sd_e, st_eq, in_if, within_if, st_nk (by decide)]
            have x64 : x6 p 4 = v1 := by rw [q6.1.1 _ _ (by omega) (by omega), q5.1.1 _ _ (by omega) (by omega), st_eq]
            rw [x64]
            have h6 := (h5.ss q6.1 (by omega) (by omega)).stX (by omega) (q := 5) (v := v2) (by omega)
            have xx6 : ∀ u v, u ≠ 10 → u ≠ 11 → ¬ (u = p ∧ 3 ≤ v ∧ v ≤ 5) → st x6 p 5 v2 u v = x u v := fun u v z1 z2 z3 => by
              rw [show st x6 p 5 v2 u v = x6 u v by unfold st; rw [if_neg (by omega)], q6.1.1 _ _ (by omega) z2, q5.1.1 _ _ (by omega) z2]
              rw [show st x4 p 4 v1 u v = x4 u v by unfold st; rw [if_neg (by omega)], q4.1.1 _ _ (by omega) z2, s3.1 _ _ (by omega) z2, exa u v z1 z2 (by omega)]
            have yy6 : ∀ u v, u ≠ 1545 → ¬ (u = 1577 ∧ v = r + 3) → y6 u v = y u v := fun u v z1 z3 => by
              rw [q6.1.2.1 _ _ (by omega), q5.1.2.1 _ _ (by omega), q4.1.2.1 _ _ (by omega), nx_at (by omega), eya u v z1 z3]
            have xx63 : st x6 p 5 v2 p 3 = wd t n j - 46 := by
              rw [st_nk (by decide), q6.1.1 _ _ (by omega) (by omega), q5.1.1 _ _ (by omega) (by omega), st_nk (by decide), q4.1.1 _ _ (by omega) (by omega), s3.1 _ _ (by omega) (by omega), ex3]
            have xx64 : st x6 p 5 v2 p 4 = v1 := by rw [st_nk (by decide), x64]
            have xx65 : st x6 p 5 v2 p 5 = v2 := st_eq _ _ _ _
            have yy63 : y6 1577 (r + 3) = wd t n j - 46 := by rw [q6.1.2.1 _ _ (by omega), q5.1.2.1 _ _ (by omega), q4.1.2.1 _ _ (by omega), nx_at (by omega), ey3]
            have wm6 : Wm x (st x6 p 5 v2) := by
              have w4 := wm0.trans (s3.2.2.1.trans q4.1.2.2.1)
              have w5 := q5.1.2.2.1
              unfold Wm at w5
              rw [st_na (show (10 : Int) ≠ p by omega)] at w5
              intro z
              rw [st_na (by omega)]
              have z4 := w4 z
              have z5 := w5 z4.1
              have z6 := q6.1.2.2.1 z5.1
              exact ⟨z6.1, by omega⟩
            have y632 : y6 1545 32 = v2 := q6.2.2.1
            generalize st x6 p 5 v2 = x7 at *
            have hv1 := q4.2.1.2.2
            -- behind the note
            have fin : ∀ x8 y8, SS t n N x7 y6 x8 y8 (j + 1 + 1 + 1 + 1 + 1) → y8 1545 32 = v2 → (x8 10 9 = -1 → 1 ≤ v2 ∧ v2 ≤ 1000 ∧ v1 < v2) → CP (fX2_lists_87 x8 p) (fX11_takeLists_132 y8 r v1) (EL L a b) (fun _ x' y' => ∃ j', LsQ t n N L p r a b i x y j x' y' j') := fun x8 y8 s8 e32 hok => by
              unfold fX11_takeLists_132
              rw [lv_e, w32_o (v := r + 4) (by omega), ck_pos (by omega), sd_e, lv_e, w32_o (v := r + 5) (by omega), ck_pos (by omega), sd_e, st_na (by decide), e32]
              have h8 := ((h6.ss s8 (by omega) (by omega)).stM (q' := r + 4) (v' := v1) (by omega)).stM (q' := r + 5) (v' := v2) (by omega)
              have ey8 : ∀ u v, ¬ (u = 1577 ∧ (v = r + 4 ∨ v = r + 5)) → st (st y8 1577 (r + 4) v1) 1577 (r + 5) v2 u v = y8 u v := fun u v z => by unfold st; rw [if_neg (by omega), if_neg (by omega)]
              have ey84 : st (st y8 1577 (r + 4) v1) 1577 (r + 5) v2 1577 (r + 4) = v1 := by rw [st_nk (by omega), st_eq]
              have ey85 : st (st y8 1577 (r + 4) v1) 1577 (r + 5) v2 1577 (r + 5) = v2 := st_eq _ _ _ _
              generalize st (st y8 1577 (r + 4) v1) 1577 (r + 5) v2 = y9 at *
              refine cp_open h8 hp hr ?_ ?_ ?_ (fun x' y' j' g1 g2 g3 g4 g5 g6 g7 g8 => ⟨j', by omega, g3, wm6.trans (s8.2.2.1.trans g4), fun q q0 q1 => ?_, ?_, fun z => ?_, g6, g7, ?_, ?_⟩)
              · rw [s8.1 _ _ (by omega) (by omega), xx6 _ _ (by omega) (by omega) (by omega)]; exact hx.2.2.1
              · rw [s8.1 _ _ (by omega) (by omega), xx6 _ _ (by omega) (by omega) (by omega)]; exact hx.2.2.2
              · rw [ey8 _ _ (by omega), s8.2.1 _ _ (by omega), yy6 _ _ (by omega) (by omega)]; exact hy 7 (by decide) (by decide)
              · have := g5 q q0 (by omega)
                rw [this.1, this.2, s8.1 _ _ (by omega) (by omega), xx6 _ _ (by omega) (by omega) (by omega), ey8 _ _ (by omega), s8.2.1 _ _ (by omega), yy6 _ _ (by omega) (by omega)]
                exact ⟨rfl, rfl⟩
              · have := g5 3 (by decide) (by decide)
                rw [this.1, this.2, s8.1 _ _ (by omega) (by omega), xx63, ey8 _ _ (by omega), s8.2.1 _ _ (by omega), yy63]
                omega
              · have g54 := g5 4 (by decide) (by decide)
                have g55 := g5 5 (by decide) (by decide)
                have e89 : x8 10 9 = -1 := by
                  rcases Int.decEq (x8 10 9) (-1) with z2 | z2
                  · exact absurd z (g4 z2).1
                  · exact z2
                have := hok e89
                rw [g54.1, g54.2, g55.1, g55.2, s8.1 _ _ (by omega) (by omega), s8.1 _ _ (by omega) (by omega), xx64, xx65, ey84, ey85]
                exact ⟨rfl, Or.inr ⟨rfl, by omega⟩⟩
              · rw [g8.1, s8.1 _ _ (by omega) (by omega), xx6 _ _ (by omega) (by omega) (by omega)]
              · rw [g8.2, ey8 _ _ (by omega), s8.2.1 _ _ (by omega), yy6 _ _ (by omega) (by omega)]
            unfold fX2_lists_83 fX11_takeLists_126
            rw [note_X, note_X, nt_1, bd_s, bd_s, blame_M, bd_s]
            have nb := h6.1.nb r3.2.1
            by_cases c1 : 1 ≤ v2 ∧ v2 ≤ 1000
            · rw [if_pos c1, one_if, one_if]
              by_cases c2 : v2 ≤ v1
              · rw [if_pos c2, if_neg (by omega)]
                exact fin _ _ nb.1 (by rw [bl_at (by decide)]; exact y632) (fun z => absurd z nb.2.1)
              · rw [if_neg c2, if_pos (by omega)]
                exact fin _ _ (SS.refl h6.1) y632 (fun z => by omega)
            · rw [if_neg c1, zer_if, zer_if]
              exact fin _ _ nb.1 (by rw [bl_at (by decide)]; exact y632) (fun z => absurd z nb.2.1)
    · rw [if_neg q21, zer_if, if_neg q21]
      dsimp only
      rw [zer_if]
      refine cp_open h1 hp hr ?_ ?_ ?_ (fun x' y' j' g1 g2 g3 g4 g5 g6 g7 g8 => ⟨j', by omega, g3, wm0.trans g4, fun q q0 q1 => ?_, ?_, fun z => ?_, g6, g7, ?_, ?_⟩)
      · rw [exa _ _ (by omega) (by omega) (by omega)]; exact hx.2.2.1
      · rw [exa _ _ (by omega) (by omega) (by omega)]; exact hx.2.2.2
      · rw [eya _ _ (by omega) (by omega)]; exact hy 7 (by decide) (by decide)
      · have := g5 q q0 (by omega)
        rw [this.1, this.2, exa _ _ (by omega) (by omega) (by omega), eya _ _ (by omega) (by omega)]
        exact ⟨rfl, rfl⟩
      · have := g5 3 (by decide) (by decide)
        rw [this.1, this.2, ex3, ey3]
        omega
      · have g54 := g5 4 (by decide) (by decide)
        have g55 := g5 5 (by decide) (by decide)
        rw [g54.1, g54.2, g55.1, g55.2, exa _ _ (by omega) (by omega) (by omega), exa _ _ (by omega) (by omega) (by omega), eya _ _ (by omega) (by omega), eya _ _ (by omega) (by omega), hx.1, hx.2.1, hy 4 (by decide) (by decide), hy 5 (by decide) (by decide)]
        exact ⟨rfl, Or.inl ⟨rfl, rfl, rfl⟩⟩
      · rw [g8.1, exa _ _ (by omega) (by omega) (by omega)]
      · rw [g8.2, eya _ _ (by omega) (by omega)]
  · rw [if_neg q, if_neg (by omega)]
    unfold fX11_takeLists_37
    rw [if_neg (by decide)]
    show CP (bx _ th _) _ _ _
    rw [bad_bx]
    exact (hR.miss (Q := fun _ _ _ => False)).mono (fun x' y' e => h.ef (by omega) hr e) (fun _ _ _ e => e.elim)
end KON
