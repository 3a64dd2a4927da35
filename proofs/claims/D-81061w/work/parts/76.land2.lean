/-! LEVEL 3: areas and borders are told -/
set_option maxRecDepth 100000
def inX (d : Dt) (r a y : Int) : Int := if a = -1 then 0 else if arX d (d 4 r) a y = r then 1 else 0
theorem inX_b {d : Dt} {r a y : Int} : inX d r a y = 0 ∨ inX d r a y = 1 := by
  unfold inX
  split
  · exact Or.inl rfl
  · split
    · exact Or.inr rfl
    · exact Or.inl rfl
theorem isIn_X {d : Dt} {r a y : Int} (h3 : R3 d) (hr : 0 ≤ r ∧ r < d 3 1) : wp (fX1_isIn d r a y) (fun v => v = inX d r a y) := by
  have hb := h3.2.1
  unfold fX1_isIn inX
  by_cases e : a = -1
  · rw [if_pos e, if_pos e, wp_some]
  · rw [if_neg e, if_neg e]
    simp only [wp_ck, wp_sd, wp_lv, wp_lm, wp_some, wp_b1, wp_bd, wp_b2, wp_b3, wp_up, wp_map]
    refine ⟨by omega, (areaOf_X h3).mono fun v hv => ?_⟩
    subst hv
    by_cases q : arX d (d 4 r) a y = r
    · rw [if_pos q, if_pos q, wp_some]
    · rw [if_neg q, if_neg q, wp_some]
theorem isIn_M {d : Dt} {r a y : Int} (h3 : R3 d) (hr : 0 ≤ r ∧ r < d 3 1) (ha : -1 ≤ a) : wp (fX11_isIn d r a y) (fun v => v = inX d r a y) := by
  have hb := h3.2.1
  unfold fX11_isIn inX
  by_cases e : a = -1
  · rw [if_pos (by omega), if_pos e, wp_some]
  · rw [if_neg (by omega), if_neg e]
    simp only [wp_ck, wp_sd, wp_lv, wp_lm, wp_some, wp_b1, wp_bd, wp_b2, wp_b3, wp_up, wp_map, ← (h3.2.2.1 r hr.1 hr.2).1]
    refine ⟨by omega, (lies_M h3).mono fun v hv => ?_⟩
    subst hv
    by_cases q : arX d (d 4 r) a y = r
    · rw [if_pos q, if_pos q, wp_some]
    · rw [if_neg q, if_neg q, wp_some]
theorem op_area {m d : Dt} {a1 : Int} (h1 : R1 d) (h3 : R3 d) (hK : Kon d) (ha : in32 a1) : wp (fX0_area d a1) (fun p => wp (fX11_area p.1 a1) (fun q => q.2 = p.2 ∧ Sm m [1, 3] d q.1 ∧ R1 q.1 ∧ R3 q.1 ∧ d 3 1 ≤ q.1 3 1)) := by
  have h3' := h3
  obtain ⟨t1, t2, t3, t4, t5, t6⟩ := h3
  have h1' := h1
  obtain ⟨h, c, bx, bm⟩ := h1
  unfold fX0_area
  by_cases hr : 0 ≤ a1 ∧ a1 ≤ 2
  · rw [if_neg (within_0.mpr hr)]
    by_cases hf : d 3 1 = 24
    · rw [if_pos hf, wp_some]
      dsimp only
      unfold fX11_area
      rw [if_neg (fun q => in_1.mp q hr), ← t1, if_pos hf, wp_some]
      exact ⟨rfl, Sm.refl, h1', h3', Int.le_refl _⟩
    · rw [if_neg hf]
      simp only [wp_ck, wp_sd, wp_lv, wp_lm, wp_some, wp_b1, wp_bd, wp_b2, wp_b3, wp_up, wp_map]
      refine (writeX (m := m) bx).mono fun d1 hd1 => ?_
      obtain ⟨s1, bx1, kb⟩ := hd1
      unfold fX1_add
      have e1 : d1 3 1 = d 3 1 := s1.at 3 3 1
      have e2 : ∀ v, st d1 4 (d 3 1) v 3 1 = d 3 1 := fun v => by rw [st_na (by decide), e1]
      simp only [wp_ck, wp_sd, wp_lv, wp_lm, wp_some, wp_b1, wp_bd, wp_b2, wp_b3, wp_up, wp_map, e1, e2, st_eq, w32_of (show (-2147483648 : Int) ≤ d 3 1 + 1 by omega) (show d 3 1 + 1 ≤ (2147483647 : Int) by omega), w32_of (show (-2147483648 : Int) ≤ d 3 1 + 1 - 1 by omega) (show d 3 1 + 1 - 1 ≤ (2147483647 : Int) by omega)]
      refine ⟨by omega, ?_⟩
      have s2 : Sm m [3] d1 (st d1 4 (d 3 1) a1) := Sm.sto 3
      have s3 : Sm m [3] (st d1 4 (d 3 1) a1) (st (st d1 4 (d 3 1) a1) 3 1 (d 3 1 + 1)) := Sm.sto 3
      have s4 : Sm m [3] d1 (st (st d1 4 (d 3 1) a1) 3 1 (d 3 1 + 1)) := s2.trans s3
      generalize hD : st (st d1 4 (d 3 1) a1) 3 1 (d 3 1 + 1) = D at s4
      have D1 : D 3 1 = d 3 1 + 1 := by rw [← hD, st_eq]
      have D4 : ∀ y, D 4 y = if y = d 3 1 then a1 else d 4 y := fun y => by
        rw [← hD, st_na (by decide)]
        unfold st
        by_cases e : y = d 3 1
        · rw [if_pos ⟨rfl, e⟩, if_pos e]
        · rw [if_neg (fun q => e q.2), if_neg e]; exact s1.at 3 4 y
      have Do : ∀ x y, x ≠ 4 → ¬ (x = 3 ∧ y = 1) → D x y = d1 x y := fun x y a b => by
        rw [← hD]
        unfold st
        rw [if_neg b, if_neg (fun q => a q.1)]
      have eM : D 1545 3 = d 3 1 := by rw [Do _ _ (by decide) (by decide), s1.at 3 1545 3, t1]
      unfold fX11_area
      rw [if_neg (fun q => in_1.mp q hr), eM, if_neg hf]
      simp only [wp_ck, wp_sd, wp_lv, wp_lm, wp_some, wp_b1, wp_bd, wp_b2, wp_b3, wp_up, wp_map]
      refine ⟨by omega, ?_⟩
      have s5 : Sm m [3] D (st D 1547 (d 3 1) a1) := Sm.sto 3
      have sA : Sm m [1, 3] d (st D 1547 (d 3 1) a1) := (s1.trans s4 (T := [1, 3])).trans s5
      refine (writeM (m := m) (h' := h) (n' := c) (hK.cg sA) (((kb _ _ bm).cg s4).cg s5) (fun k k0 k1 => (bx.1 k k0 k1).2) ⟨by decide, by decide⟩ ha ⟨by decide, by decide⟩ ⟨by decide, by decide⟩ ⟨by decide, by decide⟩).mono fun d2 hd2 => ?_
      obtain ⟨s6, bm2, kx⟩ := hd2
      have e3 : d2 1545 3 = d 3 1 := by rw [s6.at 3 1545 3, st_na (by decide), eM]
      simp only [e3, w32_of (show (-2147483648 : Int) ≤ d 3 1 + 1 by omega) (show d 3 1 + 1 ≤ (2147483647 : Int) by omega)]
      have s7 : Sm m [3] d2 (st d2 1545 3 (d 3 1 + 1)) := Sm.sto 3
      have gx : ∀ x y, mo m x y = 3 → x ≠ 1545 → x ≠ 1547 → st d2 1545 3 (d 3 1 + 1) x y = D x y := fun x y a b c => by
        rw [st_na b, s6.at 3 x y a, st_na c]
      have go : ∀ x y, mo m x y = 3 → x ≠ 1545 → x ≠ 1547 → x ≠ 4 → x ≠ 3 → st d2 1545 3 (d 3 1 + 1) x y = d x y := fun x y a b c e f => by
        rw [gx x y a b c, Do x y e (fun q => f q.1), s1.at 3 x y a]
      have e31 : st d2 1545 3 (d 3 1 + 1) 3 1 = d 3 1 + 1 := by rw [gx 3 1 rfl (by decide) (by decide), D1]
      have e36 : st d2 1545 3 (d 3 1 + 1) 3 6 = d 3 6 := by rw [gx 3 6 rfl (by decide) (by decide), Do 3 6 (by decide) (by decide), s1.at 3 3 6]
      refine ⟨by omega, (sA.trans s6 (T := [1, 3])).trans s7, ⟨_, _, (kx _ _ ((bx1.cg s4).cg s5)).cg s7, bm2.cg s7⟩, ⟨?_, ?_, fun k k0 k1 => ?_, ?_, ?_, fun k k0 k1 => ?_⟩, ?_⟩
      · rw [e31, st_eq]
      · rw [e31]; omega
      · rw [e31] at k1
        rw [gx 4 k rfl (by decide) (by decide), D4, st_na (by decide), s6.at 3 1547 k]
        by_cases e : k = d 3 1
        · subst e
          rw [if_pos rfl, st_eq]
          exact ⟨rfl, hr⟩
        · rw [if_neg e, st_nk e, Do 1547 k (by decide) (by omega), s1.at 3 1547 k]
          exact t3 k k0 (by omega)
      · rw [e36, st_nk (by decide), s6.at 3 1545 5, st_na (by decide), Do 1545 5 (by decide) (by decide), s1.at 3 1545 5, t4]
      · rw [e36]; exact t5
      · rw [e36] at k1
        rw [e31, go 5 k rfl (by decide) (by decide) (by decide) (by decide), go 6 k rfl (by decide) (by decide) (by decide) (by decide), go 7 k rfl (by decide) (by decide) (by decide) (by decide), go 8 k rfl (by decide) (by decide) (by decide) (by decide), go 1548 k rfl (by decide) (by decide) (by decide) (by decide), go 1549 k rfl (by decide) (by decide) (by decide) (by decide), go 1550 k rfl (by decide) (by decide) (by decide) (by decide), go 1551 k rfl (by decide) (by decide) (by decide) (by decide)]
        have := t6 k k0 k1
        exact ⟨this.1, by omega, this.2.2⟩
      · rw [e31]; omega
  · rw [if_pos (within_1.mpr hr), wp_some]
    dsimp only
    unfold fX11_area
    rw [if_pos (in_1.mpr hr), wp_some]
    exact ⟨rfl, Sm.refl, h1', h3', Int.le_refl _⟩
theorem Sm.stc {m d d1 : Dt} {T : List Int} {a k v : Int} (h : Sm m T d d1) : Sm m T (st d a k v) (st d1 a k v) := fun x y hx => by
  unfold st
  by_cases e : x = a ∧ y = k
  · rw [if_pos e, if_pos e]
  · rw [if_neg e, if_neg e]; exact h x y hx
theorem op_border {m d : Dt} {a1 a2 a3 a4 : Int} (h1 : R1 d) (h3 : R3 d) (hK : Kon d) (i1 : in32 a1) (i2 : in32 a2) (i3 : in32 a3) (i4 : in32 a4) : wp (fX0_border d a1 a2 a3 a4) (fun p => wp (fX11_border p.1 a1 a2 a3 a4) (fun q => q.2 = p.2 ∧ Sm m [1, 3] d q.1 ∧ R1 q.1 ∧ R3 q.1 ∧ d 3 1 ≤ q.1 3 1)) := by
  have h3' := h3
  obtain ⟨t1, t2, t3, t4, t5, t6⟩ := h3
  have h1' := h1
  obtain ⟨h, c, bx, bm⟩ := h1
  have no : ∀ r : Int, (r = -1 ∧ ¬ (0 ≤ a1 ∧ a1 ≤ d 3 1 - 1)) ∨ ((0 ≤ a1 ∧ a1 ≤ d 3 1 - 1) ∧ (r = -2 ∧ ¬ ((0 ≤ a2 ∧ a2 ≤ 999) ∧ (a2 ≤ a3 ∧ a3 ≤ 999) ∧ -36524 ≤ a4 ∧ a4 ≤ 36524) ∨ ((0 ≤ a2 ∧ a2 ≤ 999) ∧ (a2 ≤ a3 ∧ a3 ≤ 999) ∧ -36524 ≤ a4 ∧ a4 ≤ 36524) ∧ r = -5 ∧ d 3 6 = 60)) → wp (fX11_border d a1 a2 a3 a4) (fun q => q.2 = r ∧ Sm m [1, 3] d q.1 ∧ R1 q.1 ∧ R3 q.1 ∧ d 3 1 ≤ q.1 3 1) := by
    intro r hr
    unfold fX11_border fX11_isDay
    rw [← t1, ← t4, w32_of (show (-2147483648 : Int) ≤ d 3 1 - 1 by omega) (show d 3 1 - 1 ≤ (2147483647 : Int) by omega)]
    have fin : ∀ z : Int, z = r → wp (some (d, z)) (fun q => q.2 = r ∧ Sm m [1, 3] d q.1 ∧ R1 q.1 ∧ R3 q.1 ∧ d 3 1 ≤ q.1 3 1) := fun z hz => wp_some.mpr ⟨hz, Sm.refl, h1', h3', Int.le_refl _⟩
    by_cases q1 : 0 ≤ a1 ∧ a1 ≤ d 3 1 - 1
    · rw [if_neg (fun q => in_1.mp q q1)]
      by_cases q2 : 0 ≤ a2 ∧ a2 ≤ 999
      · rw [if_neg (fun q => in_1.mp q q2)]
        by_cases q3 : a2 ≤ a3 ∧ a3 ≤ 999
        · rw [if_neg (fun q => in_1.mp q q3)]
          by_cases q4 : -36524 ≤ a4 ∧ a4 ≤ 36524
          · rw [if_neg (fun q => in_1.mp q q4)]
            by_cases q5 : d 3 6 = 60
            · rw [if_pos q5]; exact fin _ (by omega)
            · omega
          · rw [if_pos (in_1.mpr q4)]; exact fin _ (by omega)
        · rw [if_pos (in_1.mpr q3)]; exact fin _ (by omega)
      · rw [if_pos (in_1.mpr q2)]; exact fin _ (by omega)
    · rw [if_pos (in_1.mpr q1)]; exact fin _ (by omega)
  unfold fX0_border fX1_has fX12_isDay
  rw [w32_of (show (-2147483648 : Int) ≤ d 3 1 - 1 by omega) (show d 3 1 - 1 ≤ (2147483647 : Int) by omega)]
  by_cases q1 : 0 ≤ a1 ∧ a1 ≤ d 3 1 - 1
  · rw [if_neg (within_0.mpr q1)]
    by_cases q2 : 0 ≤ a2 ∧ a2 ≤ 999
    · rw [if_neg (within_0.mpr q2)]
      by_cases q3 : a2 ≤ a3 ∧ a3 ≤ 999
      · rw [if_neg (within_0.mpr q3)]
        by_cases q4 : -36524 ≤ a4 ∧ a4 ≤ 36524
        · rw [if_neg (within_0.mpr q4)]
          by_cases q5 : d 3 6 = 60
          · rw [if_pos q5, wp_some]
            exact no _ (by omega)
          · rw [if_neg q5]
            simp only [wp_ck, wp_sd, wp_lv, wp_lm, wp_some, wp_b1, wp_bd, wp_b2, wp_b3, wp_up, wp_map]
            refine (writeX (m := m) bx).mono fun d1 hd1 => ?_
            obtain ⟨s1, bx1, kb⟩ := hd1
            have e1 : d1 3 6 = d 3 6 := s1.at 3 3 6
            unfold fX1_border
            have l1 : ∀ D : Dt, ∀ x k v, x ≠ 3 → D 3 6 = d 3 6 → st D x k v 3 6 = d 3 6 := fun D x k v hx hD => by rw [st_na (fun e => hx e.symm), hD]
            simp only [wp_ck, wp_sd, wp_lv, wp_lm, wp_some, wp_b1, wp_bd, wp_b2, wp_b3, wp_up, wp_map, e1, l1 _ 5 _ _ (by decide) e1, l1 _ 6 _ _ (by decide) (l1 _ 5 _ _ (by decide) e1), l1 _ 7 _ _ (by decide) (l1 _ 6 _ _ (by decide) (l1 _ 5 _ _ (by decide) e1)), l1 _ 8 _ _ (by decide) (l1 _ 7 _ _ (by decide) (l1 _ 6 _ _ (by decide) (l1 _ 5 _ _ (by decide) e1))), w32_of (show (-2147483648 : Int) ≤ d 3 6 + 1 by omega) (show d 3 6 + 1 ≤ (2147483647 : Int) by omega), st_eq]
            refine ⟨by omega, by omega, by omega, by omega, ?_⟩
            have sE : Sm m [1] (st (st (st (st (st d 5 (d 3 6) a1) 6 (d 3 6) a2) 7 (d 3 6) a3) 8 (d 3 6) a4) 3 6 (d 3 6 + 1)) (st (st (st (st (st d1 5 (d 3 6) a1) 6 (d 3 6) a2) 7 (d 3 6) a3) 8 (d 3 6) a4) 3 6 (d 3 6 + 1)) := s1.stc.stc.stc.stc.stc
            have s2 : Sm m [3] d1 (st (st (st (st (st d1 5 (d 3 6) a1) 6 (d 3 6) a2) 7 (d 3 6) a3) 8 (d 3 6) a4) 3 6 (d 3 6 + 1)) := ((((Sm.sto 3).trans (Sm.sto 3) (T := [3])).trans (Sm.sto 3) (T := [3])).trans (Sm.sto 3) (T := [3])).trans (Sm.sto 3)
            generalize hE : st (st (st (st (st d 5 (d 3 6) a1) 6 (d 3 6) a2) 7 (d 3 6) a3) 8 (d 3 6) a4) 3 6 (d 3 6 + 1) = E at sE
            generalize hD : st (st (st (st (st d1 5 (d 3 6) a1) 6 (d 3 6) a2) 7 (d 3 6) a3) 8 (d 3 6) a4) 3 6 (d 3 6 + 1) = D at sE s2
            have eE : E 1545 5 = d 3 6 := by rw [← hE]; simp [st, t4]
            have eM : D 1545 5 = d 3 6 := by rw [sE.at 3 1545 5, eE]
            have eN : D 1545 3 = d 3 1 := by rw [sE.at 3 1545 3, ← hE]; simp [st, t1]
            unfold fX11_border fX11_isDay
            rw [eN, w32_of (show (-2147483648 : Int) ≤ d 3 1 - 1 by omega) (show d 3 1 - 1 ≤ (2147483647 : Int) by omega), if_neg (fun q => in_1.mp q q1), if_neg (fun q => in_1.mp q q2), if_neg (fun q => in_1.mp q q3), if_neg (fun q => in_1.mp q q4), eM, if_neg q5]
            have l2 : ∀ D : Dt, ∀ x k v, x ≠ 1545 → D 1545 5 = d 3 6 → st D x k v 1545 5 = d 3 6 := fun D x k v hx hD => by rw [st_na (fun e => hx e.symm), hD]
            simp only [wp_ck, wp_sd, wp_lv, wp_lm, wp_some, wp_b1, wp_bd, wp_b2, wp_b3, wp_up, wp_map, l2 _ 1548 _ _ (by decide) eM, l2 _ 1549 _ _ (by decide) (l2 _ 1548 _ _ (by decide) eM), l2 _ 1550 _ _ (by decide) (l2 _ 1549 _ _ (by decide) (l2 _ 1548 _ _ (by decide) eM)), l2 _ 1551 _ _ (by decide) (l2 _ 1550 _ _ (by decide) (l2 _ 1549 _ _ (by decide) (l2 _ 1548 _ _ (by decide) eM))), w32_of (show (-2147483648 : Int) ≤ d 3 6 + 1 by omega) (show d 3 6 + 1 ≤ (2147483647 : Int) by omega)]
            refine ⟨by omega, by omega, by omega, by omega, ?_⟩
            have sF : Sm m [1] (st (st (st (st (st E 1548 (d 3 6) a1) 1549 (d 3 6) a2) 1550 (d 3 6) a3) 1551 (d 3 6) a4) 1545 5 (d 3 6 + 1)) (st (st (st (st (st D 1548 (d 3 6) a1) 1549 (d 3 6) a2) 1550 (d 3 6) a3) 1551 (d 3 6) a4) 1545 5 (d 3 6 + 1)) := sE.stc.stc.stc.stc.stc
            have s3 : Sm m [3] D (st (st (st (st (st D 1548 (d 3 6) a1) 1549 (d 3 6) a2) 1550 (d 3 6) a3) 1551 (d 3 6) a4) 1545 5 (d 3 6 + 1)) := ((((Sm.sto 3).trans (Sm.sto 3) (T := [3])).trans (Sm.sto 3) (T := [3])).trans (Sm.sto 3) (T := [3])).trans (Sm.sto 3)
            generalize hG : st (st (st (st (st E 1548 (d 3 6) a1) 1549 (d 3 6) a2) 1550 (d 3 6) a3) 1551 (d 3 6) a4) 1545 5 (d 3 6 + 1) = G at sF
            generalize st (st (st (st (st D 1548 (d 3 6) a1) 1549 (d 3 6) a2) 1550 (d 3 6) a3) 1551 (d 3 6) a4) 1545 5 (d 3 6 + 1) = D2 at sF s3
            have sA : Sm m [1, 3] d D2 := (s1.trans s2 (T := [1, 3])).trans s3
            refine (writeM (m := m) (h' := h) (n' := c) (hK.cg sA) (((kb _ _ bm).cg s2).cg s3) (fun k k0 k1 => (bx.1 k k0 k1).2) ⟨by decide, by decide⟩ i1 i2 i3 i4).mono fun d2 hd2 => ?_
            obtain ⟨s6, bm2, kx⟩ := hd2
            have sG : Sm m [1] G d2 := sF.trans s6
            have G1 : G 1545 5 = d 3 6 + 1 := by rw [← hG]; simp [st]
            have G31 : G 3 1 = d 3 1 := by rw [← hG, ← hE]; simp [st]
            have hR : R3 G := by
              unfold R3
              have g36 : G 3 6 = d 3 6 + 1 := by rw [← hG, ← hE]; simp [st]
              rw [G31, g36, G1]
              refine ⟨by rw [← hG, ← hE]; simp [st, t1], t2, fun k k0 k1 => ?_, rfl, by omega, fun k k0 k1 => ?_⟩
              · have := t3 k k0 k1
                rw [← hG, ← hE]
                simp [st]
                exact this
              · rw [← hG, ← hE]
                by_cases e : k = d 3 6
                · subst e
                  simp [st]
                  omega
                · have := t6 k k0 (by omega)
                  simp [st, e]
                  omega
            refine ⟨?_, sA.trans s6, ⟨_, _, kx _ _ ((bx1.cg s2).cg s3), bm2⟩, hR.cg sG, ?_⟩
            · rw [sG.at 3 1545 5, G1]
            · rw [sG.at 3 3 1, G31]; omega
        · rw [if_pos (within_1.mpr q4), wp_some]
          exact no _ (by omega)
      · rw [if_pos (within_1.mpr q3), wp_some]
        exact no _ (by omega)
    · rw [if_pos (within_1.mpr q2), wp_some]
      exact no _ (by omega)
  · rw [if_pos (within_1.mpr q1), wp_some]
    exact no _ (by omega)
