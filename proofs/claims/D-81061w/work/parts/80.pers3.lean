/-! LEVEL 3: moves and addresses -/
set_option maxRecDepth 100000
def mvJ (d : Dt) (o a : Int) (D : Dt) (v : Int) : Prop := (0 ≤ v ∧ v ≤ d o 8) ∧ (∀ x y, x ≠ o + 1 → x ≠ o + 2 → D x y = d x y) ∧ (∀ k, 0 ≤ k → k < v → D (o + 1) k = d (o + 1) k ∧ D (o + 2) k = d (o + 2) k) ∧ (∀ k, v < k → k ≤ d o 8 → D (o + 1) k = d (o + 1) (k - 1) ∧ D (o + 2) k = d (o + 2) (k - 1)) ∧ ∀ k, v ≤ k → k < d o 8 → a < d (o + 1) k
def mvQ (d : Dt) (o a b : Int) (q : Dt × Int) : Prop := q.2 = d o 8 + 1 ∧ (∀ x y, ¬ (x = o ∧ y = 8) → x ≠ o + 1 → x ≠ o + 2 → q.1 x y = d x y) ∧ q.1 o 8 = d o 8 + 1 ∧ ∃ i, (i = 0 ∨ d (o + 1) (i - 1) ≤ a) ∧ Ins (d (o + 1)) (d (o + 2)) (q.1 (o + 1)) (q.1 (o + 2)) (d o 8) i a b
theorem move_55 {d D : Dt} {o a b v : Int} (hn : d o 8 < 10) (h : mvJ d o a D v) (he : v = 0 ∨ d (o + 1) (v - 1) ≤ a) : wp (fX13_move_55 D o a b v) (mvQ d o a b) := by
  obtain ⟨j0, j1, j2, j3, j4⟩ := h
  have e1 : st (st D (o + 1) v a) (o + 2) v b o 8 = d o 8 := by rw [st_na (by omega), st_na (by omega), j1 _ _ (by omega) (by omega)]
  unfold fX13_move_55
  simp only [wp_ck, wp_sd, wp_lv, wp_lm, wp_some, wp_b1, wp_bd, wp_b2, wp_b3, wp_up, wp_map, e1, st_eq, w32_of (show (-2147483648 : Int) ≤ d o 8 + 1 by omega) (show d o 8 + 1 ≤ (2147483647 : Int) by omega)]
  refine ⟨by omega, rfl, fun x y x0 x1 x2 => ?_, st_eq _ _ _ _, v, he, j0, fun k k0 k1 => ?_, ?_, fun k k0 k1 => ?_, j4⟩
  · show st (st (st D (o + 1) v a) (o + 2) v b) o 8 (d o 8 + 1) x y = d x y
    rw [← j1 x y x1 x2]
    unfold st
    rw [if_neg x0, if_neg (fun q => x2 q.1), if_neg (fun q => x1 q.1)]
  · show st (st (st D (o + 1) v a) (o + 2) v b) o 8 (d o 8 + 1) (o + 1) k = d (o + 1) k ∧ st (st (st D (o + 1) v a) (o + 2) v b) o 8 (d o 8 + 1) (o + 2) k = d (o + 2) k
    rw [st_na (by omega), st_na (by omega), st_nk (by omega), st_na (by omega), st_nk (by omega), st_na (by omega)]
    exact j2 k k0 k1
  · show st (st (st D (o + 1) v a) (o + 2) v b) o 8 (d o 8 + 1) (o + 1) v = a ∧ st (st (st D (o + 1) v a) (o + 2) v b) o 8 (d o 8 + 1) (o + 2) v = b
    rw [st_na (by omega), st_na (by omega), st_eq, st_na (by omega), st_eq]
    exact ⟨rfl, rfl⟩
  · show st (st (st D (o + 1) v a) (o + 2) v b) o 8 (d o 8 + 1) (o + 1) k = d (o + 1) (k - 1) ∧ st (st (st D (o + 1) v a) (o + 2) v b) o 8 (d o 8 + 1) (o + 2) k = d (o + 2) (k - 1)
    rw [st_na (by omega), st_na (by omega), st_nk (by omega), st_na (by omega), st_nk (by omega), st_na (by omega)]
    exact j3 k k0 k1
theorem move_X {d : Dt} {o a b : Int} (hn : 0 ≤ d o 8 ∧ d o 8 < 10) : wp (fX13_move d o a b) (mvQ d o a b) := by
  unfold fX13_move fX13_move_5
  rw [wp_lv]
  refine wp_loop (n := (d o 8).toNat) (fun n s => s.2.toNat = n ∧ mvJ d o a s.1 s.2) (fun n s hs => ?_) ⟨rfl, ⟨hn.1, Int.le_refl _⟩, fun _ _ _ _ => rfl, fun _ _ _ => ⟨rfl, rfl⟩, fun k k0 k1 => absurd k1 (by show ¬ k ≤ d o 8; omega), fun k k0 k1 => absurd k1 (by show ¬ k < d o 8; omega)⟩
  obtain ⟨D, v⟩ := s
  obtain ⟨hs, hJ⟩ := hs
  dsimp only at hs hJ
  have hJ' := hJ
  obtain ⟨j0, j1, j2, j3, j4⟩ := hJ
  unfold fX13_move_5f
  dsimp only
  by_cases e : v ≤ 0
  · rw [if_pos e, wp_up]
    exact move_55 hn.2 hJ' (Or.inl (by omega))
  · rw [if_neg e]
    have g := j2 (v - 1) (by omega) (by omega)
    simp only [wp_lv, wp_ck, w32_of (show (-2147483648 : Int) ≤ v - 1 by omega) (show v - 1 ≤ (2147483647 : Int) by omega), g.1]
    refine ⟨by omega, ?_⟩
    by_cases f : d (o + 1) (v - 1) ≤ a
    · rw [if_pos f, wp_up]
      exact move_55 hn.2 hJ' (Or.inr f)
    · rw [if_neg f]
      simp only [wp_ck, wp_sd, wp_lv, wp_lm, wp_some, wp_b1, wp_bd, wp_b2, wp_b3, wp_up, wp_map, w32_of (show (-2147483648 : Int) ≤ v + -1 by omega) (show v + -1 ≤ (2147483647 : Int) by omega)]
      refine ⟨by omega, by omega, by omega, (v - 1).toNat, by omega, by show (v + -1).toNat = (v - 1).toNat; congr 1, ⟨by omega, by omega⟩, fun x y x1 x2 => ?_, fun k k0 k1 => ?_, fun k k0 k1 => ?_, fun k k0 k1 => ?_⟩
      · rw [st_na x2, st_na x1]; exact j1 x y x1 x2
      · rw [st_na (by omega), st_nk (by omega), st_nk (by omega), st_na (by omega)]
        exact j2 k k0 (by omega)
      · by_cases q : k = v
        · subst q
          rw [st_na (by omega), st_eq, st_eq, st_na (by omega)]
          exact g
        · rw [st_na (by omega), st_nk q, st_nk q, st_na (by omega)]
          exact j3 k (by omega) k1
      · by_cases q : k = v - 1
        · subst q; omega
        · exact j4 k (by omega) k1
theorem address_X {d : Dt} {o t : Int} {D' T' : Int → Int} (hn : 0 ≤ d o 8 ∧ d o 8 ≤ 10) (hM : Mv (d (o + 1)) (d (o + 2)) D' T' (d o 8)) : wp (fX13_address d o t) (fun v => Ad D' T' (d o 8) t v) := by
  unfold fX13_address fX13_address_7
  rw [wp_lv, w32_of (show (-2147483648 : Int) ≤ d o 8 - 1 by omega) (show d o 8 - 1 ≤ (2147483647 : Int) by omega)]
  refine wp_loop (n := (d o 8).toNat) (fun n s => (s + 1).toNat = n ∧ (-1 ≤ s ∧ s < d o 8) ∧ ∀ k, s < k → k < d o 8 → t < d (o + 1) k) (fun n s hs => ?_) ⟨by omega, by omega, fun k k0 k1 => absurd k1 (by omega)⟩
  obtain ⟨hs, h1, h2⟩ := hs
  unfold fX13_address_7f fX13_address_27
  dsimp only
  by_cases e : s < 0
  · rw [if_pos e, wp_up, if_neg (by omega), wp_some]
    exact (hM.ad t _).mp (Or.inl ⟨rfl, fun k k0 k1 => h2 k (by omega) k1⟩)
  · rw [if_neg e, wp_ck]
    refine ⟨by omega, ?_⟩
    by_cases f : d (o + 1) s ≤ t
    · rw [if_pos f, wp_up, if_pos (by omega), wp_ck, wp_some]
      refine ⟨by omega, (hM.ad t _).mp (Or.inr ⟨s, ⟨by omega, h1.2, f, rfl⟩, fun j j0 j1 j2 => ?_⟩)⟩
      have a : j ≤ s := by
        rcases Int.lt_or_le s j with q | q
        · have := h2 j q j1; omega
        · exact q
      have := hM.so j s j0 a h1.2
      omega
    · rw [if_neg f, wp_lv, wp_some, w32_of (show (-2147483648 : Int) ≤ s + -1 by omega) (show s + -1 ≤ (2147483647 : Int) by omega)]
      refine ⟨(s + -1 + 1).toNat, by omega, rfl, by omega, fun k k0 k1 => ?_⟩
      by_cases q : k = s
      · subst q; omega
      · exact h2 k (by omega) k1
theorem addressOn_M {d : Dt} {p t : Int} (hp : 0 ≤ p ∧ p < 60) (hn : 0 ≤ d 1557 p ∧ d 1557 p ≤ 10) : wp (fX11_addressOn d p t) (fun v => Ad (fun k => d 1558 (10 * p + k)) (fun k => d 1559 (10 * p + k)) (d 1557 p) t v) := by
  unfold fX11_addressOn fX11_addressOn_8
  rw [wp_lv, w32_of (show (-2147483648 : Int) ≤ 10 * p by omega) (show 10 * p ≤ (2147483647 : Int) by omega)]
  refine wp_up2 (fun i v => (v = -1 ∧ ∀ k, 0 ≤ k → k < i - 10 * p → t < d 1558 (10 * p + k)) ∨ ((10 * p ≤ v ∧ v < i ∧ d 1558 v ≤ t) ∧ ∀ k, 0 ≤ k → k < i - 10 * p → d 1558 (10 * p + k) ≤ t → d 1558 (10 * p + k) < d 1558 v ∨ (d 1558 (10 * p + k) = d 1558 v ∧ 10 * p + k ≤ v))) (10 * p) (10 * p + d 1557 p) (by omega) (fun v i i0 i1 hI => ?_) (fun v hI => ?_) (Or.inl ⟨rfl, fun k k0 k1 => absurd k1 (by omega)⟩)
  · unfold fX11_addressOn_8f
    dsimp only
    rw [wp_ck, w32_of (show (-2147483648 : Int) ≤ 10 * p by omega) (show 10 * p ≤ (2147483647 : Int) by omega), w32_of (show (-2147483648 : Int) ≤ 10 * p + d 1557 p by omega) (show 10 * p + d 1557 p ≤ (2147483647 : Int) by omega), if_neg (by omega), wp_ck]
    refine ⟨hp, by omega, ?_⟩
    have ei : ∀ k, 0 ≤ k → k < i + 1 - 10 * p → ¬ k < i - 10 * p → 10 * p + k = i := fun k _ _ _ => by omega
    by_cases f : t < d 1558 i
    · rw [if_pos f, wp_lv, wp_some, w32_of (show (-2147483648 : Int) ≤ i + 1 by omega) (show i + 1 ≤ (2147483647 : Int) by omega)]
      refine Or.inl ⟨v, rfl, ?_⟩
      rcases hI with ⟨e, h⟩ | ⟨e, h⟩
      · refine Or.inl ⟨e, fun k k0 k1 => ?_⟩
        by_cases q : k < i - 10 * p
        · exact h k k0 q
        · rw [ei k k0 k1 q]; exact f
      · refine Or.inr ⟨by omega, fun k k0 k1 k2 => ?_⟩
        by_cases q : k < i - 10 * p
        · exact h k k0 q k2
        · rw [ei k k0 k1 q] at k2; omega
    · rw [if_neg f]
      have new : (∀ k, 0 ≤ k → k < i - 10 * p → d 1558 (10 * p + k) ≤ t → d 1558 (10 * p + k) ≤ d 1558 i) → (10 * p ≤ i ∧ i < i + 1 ∧ d 1558 i ≤ t) ∧ ∀ k, 0 ≤ k → k < i + 1 - 10 * p → d 1558 (10 * p + k) ≤ t → d 1558 (10 * p + k) < d 1558 i ∨ (d 1558 (10 * p + k) = d 1558 i ∧ 10 * p + k ≤ i) := fun h => by
        refine ⟨by omega, fun k k0 k1 k2 => ?_⟩
        by_cases q : k < i - 10 * p
        · have := h k k0 q k2; omega
        · rw [ei k k0 k1 q]; omega
      by_cases g : v < 0
      · rw [if_pos g, wp_lv, wp_some, w32_of (show (-2147483648 : Int) ≤ i + 1 by omega) (show i + 1 ≤ (2147483647 : Int) by omega)]
        refine Or.inl ⟨i, rfl, Or.inr (new fun k k0 k1 k2 => ?_)⟩
        rcases hI with ⟨e, h⟩ | ⟨e, h⟩
        · have := h k k0 k1; omega
        · omega
      · rw [if_neg g, wp_ck]
        rcases hI with ⟨e, h⟩ | ⟨e, h⟩
        · omega
        · refine ⟨by omega, ?_⟩
          by_cases r : d 1558 i < d 1558 v
          · rw [if_pos r, wp_lv, wp_some, w32_of (show (-2147483648 : Int) ≤ i + 1 by omega) (show i + 1 ≤ (2147483647 : Int) by omega)]
            refine Or.inl ⟨v, rfl, Or.inr ⟨by omega, fun k k0 k1 k2 => ?_⟩⟩
            by_cases q : k < i - 10 * p
            · exact h k k0 q k2
            · rw [ei k k0 k1 q]; omega
          · rw [if_neg r, wp_lv, wp_some, w32_of (show (-2147483648 : Int) ≤ i + 1 by omega) (show i + 1 ≤ (2147483647 : Int) by omega)]
            refine Or.inl ⟨i, rfl, Or.inr (new fun k k0 k1 k2 => ?_)⟩
            have := h k k0 k1 k2; omega
  · unfold fX11_addressOn_8f
    dsimp only
    rw [wp_ck, w32_of (show (-2147483648 : Int) ≤ 10 * p by omega) (show 10 * p ≤ (2147483647 : Int) by omega), w32_of (show (-2147483648 : Int) ≤ 10 * p + d 1557 p by omega) (show 10 * p + d 1557 p ≤ (2147483647 : Int) by omega), if_pos (by omega), wp_up]
    refine ⟨hp, ?_⟩
    rcases hI with ⟨e, h⟩ | ⟨e, h⟩
    · rw [if_neg (by omega), wp_some]
      exact ⟨_, rfl, Or.inl ⟨rfl, fun k k0 k1 => h k k0 (by omega)⟩⟩
    · rw [if_pos (by omega), wp_ck, wp_some]
      refine ⟨by omega, _, rfl, Or.inr ⟨v - 10 * p, ⟨by omega, by omega, ?_, ?_⟩, fun j j0 j1 j2 => ?_⟩⟩
      · show d 1558 (10 * p + (v - 10 * p)) ≤ t
        rw [show 10 * p + (v - 10 * p) = v by omega]; exact e.2.2
      · show d 1559 (10 * p + (v - 10 * p)) = d 1559 v
        rw [show 10 * p + (v - 10 * p) = v by omega]
      · have := h j j0 (by omega) j2
        show d 1558 (10 * p + j) < d 1558 (10 * p + (v - 10 * p)) ∨ (d 1558 (10 * p + j) = d 1558 (10 * p + (v - 10 * p)) ∧ j ≤ v - 10 * p)
        rw [show 10 * p + (v - 10 * p) = v by omega]
        omega
