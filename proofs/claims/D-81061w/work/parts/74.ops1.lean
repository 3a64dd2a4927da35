/-! LEVEL 3: tape, day, areas -/
set_option maxRecDepth 100000
def fsel (a1 a2 a3 a4 a5 k : Int) : Int := if 4 ≤ k then (if 8 ≤ k then (if 12 ≤ k then (if 16 ≤ k then a5 else a4) else a3) else a2) else a1
def fbt (a1 a2 a3 a4 a5 k : Int) : Int := w8 (w8 (bShr (fsel a1 a2 a3 a4 a5 k) (w32 (24 - (w32 (8 * (Int.tmod k 4)))))))
theorem feedX_72 {d : Dt} {a1 a2 a3 a4 a5 k : Int} (h : k < 20) : fX0_feed_19f a1 a2 a3 a4 a5 (d, k) = fX0_feed_72 d a1 a2 a3 a4 a5 k (fsel a1 a2 a3 a4 a5 k) := by
  unfold fX0_feed_19f fsel
  dsimp only
  rw [if_neg (by omega)]
  repeat' split
  all_goals rfl
theorem feedM_72 {d : Dt} {a1 a2 a3 a4 a5 k : Int} (h : k < 20) : fX11_feed_19f a1 a2 a3 a4 a5 (d, k) = fX11_feed_72 d a1 a2 a3 a4 a5 k (fsel a1 a2 a3 a4 a5 k) := by
  unfold fX11_feed_19f fsel
  dsimp only
  rw [if_neg (by omega)]
  repeat' split
  all_goals rfl
def fed (d : Dt) (r T : Int) (a1 a2 a3 a4 a5 n : Int) (y : Int) : Int := if T ≤ y ∧ y < T + n then fbt a1 a2 a3 a4 a5 (y - T) else d r y
theorem fed_st {d : Dt} {r T a1 a2 a3 a4 a5 k y : Int} (k0 : 0 ≤ k) : (if y = T + k then fbt a1 a2 a3 a4 a5 k else fed d r T a1 a2 a3 a4 a5 k y) = fed d r T a1 a2 a3 a4 a5 (k + 1) y := by
  unfold fed
  by_cases e : y = T + k
  · rw [if_pos e, if_pos (by omega), show y - T = k by omega]
  · rw [if_neg e]
    by_cases e2 : T ≤ y ∧ y < T + k
    · rw [if_pos e2, if_pos (by omega)]
    · rw [if_neg e2, if_neg (by omega)]
theorem feed_X {d : Dt} {a1 a2 a3 a4 a5 : Int} (hT : 0 ≤ d 1 1 ∧ d 1 1 + 20 ≤ 4000) : wp (fX0_feed d a1 a2 a3 a4 a5) (fun p => p.2 = d 1 1 + 20 ∧ p.1 1 1 = d 1 1 + 20 ∧ (∀ y, p.1 2 y = fed d 2 (d 1 1) a1 a2 a3 a4 a5 20 y) ∧ ∀ x y, x ≠ 2 → ¬ (x = 1 ∧ y = 1) → p.1 x y = d x y) := by
  unfold fX0_feed
  rw [w32_of (show (-2147483648 : Int) ≤ d 1 1 + 20 by omega) (show d 1 1 + 20 ≤ (2147483647 : Int) by omega), if_pos (by omega)]
  unfold fX0_feed_19
  refine wp_for (fun k d' => d' 1 1 = d 1 1 + k ∧ (∀ y, d' 2 y = fed d 2 (d 1 1) a1 a2 a3 a4 a5 k y) ∧ ∀ x y, x ≠ 2 → ¬ (x = 1 ∧ y = 1) → d' x y = d x y) 0 20 (by omega) (fun k d' k0 k1 hI => ?_) (fun d' hI => ?_) ⟨by omega, fun y => by unfold fed; rw [if_neg (by omega)], fun _ _ _ _ => rfl⟩
  · rw [feedX_72 k1]
    unfold fX0_feed_72
    have e1 : st d' 2 (d' 1 1) (w8 (w8 (bShr (fsel a1 a2 a3 a4 a5 k) (w32 (24 - (w32 (8 * (Int.tmod k 4)))))))) 1 1 = d 1 1 + k := by rw [st_na (by decide)]; exact hI.1
    simp only [wp_ck, wp_sd, wp_lv, wp_lm, wp_some, wp_b1, wp_bd, wp_b2, wp_b3, wp_up, wp_map, e1, w32_of (show (-2147483648 : Int) ≤ k + 1 by omega) (show k + 1 ≤ (2147483647 : Int) by omega), w32_of (show (-2147483648 : Int) ≤ d 1 1 + k + 1 by omega) (show d 1 1 + k + 1 ≤ (2147483647 : Int) by omega)]
    refine ⟨by omega, _, rfl, by rw [st_eq]; omega, fun y => ?_, fun x y h1 h2 => ?_⟩
    · rw [st_na (by decide), ← fed_st k0]
      unfold st
      rw [hI.1]
      by_cases e : y = d 1 1 + k
      · rw [if_pos ⟨rfl, e⟩, if_pos e]; rfl
      · rw [if_neg (fun q => e q.2), if_neg e]; exact hI.2.1 y
    · unfold st
      rw [if_neg h2, if_neg (fun q => h1 q.1)]
      exact hI.2.2 x y h1 h2
  · unfold fX0_feed_19f
    dsimp only
    rw [if_pos (by omega)]
    simp only [wp_ck, wp_sd, wp_lv, wp_lm, wp_some, wp_b1, wp_bd, wp_b2, wp_b3, wp_up, wp_map]
    exact ⟨_, rfl, hI.1, hI⟩
theorem feed_M {d : Dt} {a1 a2 a3 a4 a5 : Int} (hT : 0 ≤ d 1545 1 ∧ d 1545 1 + 20 ≤ 4000) : wp (fX11_feed d a1 a2 a3 a4 a5) (fun p => p.2 = d 1545 1 + 20 ∧ p.1 1545 1 = d 1545 1 + 20 ∧ (∀ y, p.1 1546 y = fed d 1546 (d 1545 1) a1 a2 a3 a4 a5 20 y) ∧ ∀ x y, x ≠ 1546 → ¬ (x = 1545 ∧ y = 1) → p.1 x y = d x y) := by
  unfold fX11_feed
  rw [w32_of (show (-2147483648 : Int) ≤ d 1545 1 + 20 by omega) (show d 1545 1 + 20 ≤ (2147483647 : Int) by omega), if_pos (by omega)]
  unfold fX11_feed_19
  refine wp_for (fun k d' => (∀ y, d' 1546 y = fed d 1546 (d 1545 1) a1 a2 a3 a4 a5 k y) ∧ ∀ x y, x ≠ 1546 → d' x y = d x y) 0 20 (by omega) (fun k d' k0 k1 hI => ?_) (fun d' hI => ?_) ⟨fun y => by unfold fed; rw [if_neg (by omega)], fun _ _ _ => rfl⟩
  · rw [feedM_72 k1]
    unfold fX11_feed_72
    have e1 : d' 1545 1 = d 1545 1 := hI.2 _ _ (by decide)
    simp only [wp_ck, wp_sd, wp_lv, wp_lm, wp_some, wp_b1, wp_bd, wp_b2, wp_b3, wp_up, wp_map, e1, w32_of (show (-2147483648 : Int) ≤ k + 1 by omega) (show k + 1 ≤ (2147483647 : Int) by omega), w32_of (show (-2147483648 : Int) ≤ d 1545 1 + k by omega) (show d 1545 1 + k ≤ (2147483647 : Int) by omega)]
    refine ⟨by omega, _, rfl, fun y => ?_, fun x y h1 => by rw [st_na h1]; exact hI.2 x y h1⟩
    rw [← fed_st k0]
    unfold st
    by_cases e : y = d 1545 1 + k
    · rw [if_pos ⟨rfl, e⟩, if_pos e]; rfl
    · rw [if_neg (fun q => e q.2), if_neg e]; exact hI.1 y
  · unfold fX11_feed_19f
    dsimp only
    rw [if_pos (by omega)]
    have e1 : d' 1545 1 = d 1545 1 := hI.2 _ _ (by decide)
    simp only [wp_ck, wp_sd, wp_lv, wp_lm, wp_some, wp_b1, wp_bd, wp_b2, wp_b3, wp_up, wp_map, e1, w32_of (show (-2147483648 : Int) ≤ d 1545 1 + 20 by omega) (show d 1545 1 + 20 ≤ (2147483647 : Int) by omega)]
    refine ⟨_, rfl, ?_⟩
    dsimp only
    refine ⟨by rw [st_eq], by rw [st_eq], fun y => by rw [st_na (by decide)]; exact hI.1 y, fun x y h1 h2 => ?_⟩
    unfold st
    rw [if_neg h2]
    exact hI.2 x y h1
theorem mo_0 {m : Dt} {x y : Int} (h : x = 2 ∨ x = 1546 ∨ (x = 1 ∧ y = 1) ∨ (x = 1545 ∧ y = 1)) : mo m x y = 0 := by
  rcases h with rfl | rfl | ⟨rfl, rfl⟩ | ⟨rfl, rfl⟩ <;> rfl
theorem op_feed {m d : Dt} {a1 a2 a3 a4 a5 : Int} (h0 : R0 d) : wp (fX0_feed d a1 a2 a3 a4 a5) (fun p => wp (fX11_feed p.1 a1 a2 a3 a4 a5) (fun q => q.2 = p.2 ∧ Sm m [0] d q.1 ∧ R0 q.1)) := by
  obtain ⟨t1, t2, t3⟩ := h0
  by_cases hf : d 1 1 + 20 ≤ 4000
  · refine (feed_X ⟨t2.1, hf⟩).mono fun p hp => ?_
    obtain ⟨p1, p2, p3, p4⟩ := hp
    have e1 : p.1 1545 1 = d 1545 1 := p4 _ _ (by decide) (by decide)
    refine (feed_M (d := p.1) (by rw [e1]; omega)).mono fun q hq => ?_
    obtain ⟨q1, q2, q3, q4⟩ := hq
    rw [e1] at q1 q2 q3
    refine ⟨by rw [q1, p1, t1], fun x y hx => ?_, ?_, ?_, fun k k0 k1 => ?_⟩
    · have hx : ∀ h, mo m x y = 0 → h := fun h e => absurd (List.mem_singleton.mpr e) hx
      rw [q4 x y (fun e => hx _ (mo_0 (Or.inr (Or.inl e)))) (fun e => hx _ (mo_0 (Or.inr (Or.inr (Or.inr e)))))]
      exact p4 x y (fun e => hx _ (mo_0 (Or.inl e))) (fun e => hx _ (mo_0 (Or.inr (Or.inr (Or.inl e)))))
    · rw [q4 1 1 (by decide) (by decide), p2, q2, t1]
    · rw [q4 1 1 (by decide) (by decide), p2]; omega
    · rw [q4 2 k (by decide) (by omega), p3, q3]
      unfold fed
      rw [p4 1546 k (by decide) (by omega), ← t1]
      by_cases e : d 1 1 ≤ k ∧ k < d 1 1 + 20
      · simp only [if_pos e]
        exact ⟨trivial, w8_in _⟩
      · simp only [if_neg e]
        exact t3 k k0 k1
  · unfold fX0_feed
    rw [w32_of (show (-2147483648 : Int) ≤ d 1 1 + 20 by omega) (show d 1 1 + 20 ≤ (2147483647 : Int) by omega), if_neg hf, wp_some]
    dsimp only
    unfold fX11_feed
    rw [← t1, w32_of (show (-2147483648 : Int) ≤ d 1 1 + 20 by omega) (show d 1 1 + 20 ≤ (2147483647 : Int) by omega), if_neg hf, wp_some]
    exact ⟨rfl, Sm.refl, t1, t2, t3⟩
theorem op_cut {m d : Dt} {a1 : Int} (h0 : R0 d) : wp (fX0_cut d a1) (fun p => wp (fX11_cut p.1 a1) (fun q => q.2 = p.2 ∧ Sm m [0] d q.1 ∧ R0 q.1)) := by
  obtain ⟨t1, t2, t3⟩ := h0
  unfold fX0_cut
  by_cases h : 0 ≤ a1 ∧ a1 ≤ d 1 1
  · rw [if_neg (within_0.mpr h)]
    simp only [wp_ck, wp_sd, wp_lv, wp_lm, wp_some, wp_b1, wp_bd, wp_b2, wp_b3, wp_up, wp_map]
    unfold fX11_cut
    have e1 : st d 1 1 a1 1545 1 = d 1 1 := by rw [st_na (by decide), t1]
    rw [e1, if_neg (fun q => in_1.mp q h)]
    simp only [wp_ck, wp_sd, wp_lv, wp_lm, wp_some, wp_b1, wp_bd, wp_b2, wp_b3, wp_up, wp_map]
    refine ⟨trivial, (Sm.sto 0).trans (Sm.sto 0), ?_, ?_, fun k k0 k1 => ?_⟩
    · rw [st_na (by decide), st_eq, st_eq]
    · rw [st_na (by decide), st_eq]; omega
    · rw [st_na (by decide), st_na (by decide), st_na (by decide), st_na (by decide)]
      exact t3 k k0 k1
  · rw [if_pos (within_1.mpr h), wp_some]
    dsimp only
    unfold fX11_cut
    rw [← t1, if_pos (in_1.mpr h), wp_some]
    exact ⟨rfl, Sm.refl, t1, t2, t3⟩
/-- both books go on by the same row -/
theorem op_day {m d : Dt} {a1 : Int} (h1 : R1 d) (h2 : R2 d) (hK : Kon d) (ha : in32 a1) : wp (fX0_day d a1) (fun p => wp (fX11_day p.1 a1) (fun q => q.2 = p.2 ∧ Sm m [1, 2] d q.1 ∧ R1 q.1 ∧ R2 q.1)) := by
  obtain ⟨t1, t2⟩ := h2
  obtain ⟨h, c, bx, bm⟩ := h1
  unfold fX0_day
  by_cases hr : d 1 2 ≤ a1 ∧ a1 ≤ 36524
  · rw [if_neg (within_0.mpr hr)]
    simp only [wp_ck, wp_sd, wp_lv, wp_lm, wp_some, wp_b1, wp_bd, wp_b2, wp_b3, wp_up, wp_map]
    have s1 : Sm m [2] d (st d 1 2 a1) := Sm.sto 2
    refine (writeX (m := m) (bx.cg s1)).mono fun d1 hd1 => ?_
    obtain ⟨s2, bx1, kb⟩ := hd1
    have e1 : d1 1545 2 = d 1 2 := by rw [s2.at 2 1545 2, st_na (by decide), t1]
    unfold fX11_day
    rw [e1, if_neg (fun q => in_1.mp q hr)]
    simp only [wp_ck, wp_sd, wp_lv, wp_lm, wp_some, wp_b1, wp_bd, wp_b2, wp_b3, wp_up, wp_map]
    have s3 : Sm m [2] d1 (st d1 1545 2 a1) := Sm.sto 2
    have s12 : Sm m [1, 2] d d1 := s1.trans s2
    refine (writeM (m := m) (h' := h) (n' := c) (hK.cg (s12.trans s3 (T := [1, 2]))) ((kb _ _ (bm.cg s1)).cg s3) (fun k k0 k1 => (bx.1 k k0 k1).2) ⟨by decide, by decide⟩ ha ⟨by decide, by decide⟩ ⟨by decide, by decide⟩ ⟨by decide, by decide⟩).mono fun d2 hd2 => ?_
    obtain ⟨s4, bm2, kx⟩ := hd2
    refine ⟨trivial, (s12.trans s3 (T := [1, 2])).trans s4, ⟨_, _, kx _ _ (bx1.cg s3), bm2⟩, ?_, ?_⟩
    · rw [s4.at 2 1 2, s4.at 2 1545 2, st_eq, st_na (by decide), s2.at 2 1 2, st_eq]
    · rw [s4.at 2 1 2, st_na (by decide), s2.at 2 1 2, st_eq]; omega
  · rw [if_pos (within_1.mpr hr), wp_some]
    dsimp only
    unfold fX11_day
    rw [← t1, if_pos (in_1.mpr hr), wp_some]
    exact ⟨rfl, Sm.refl, ⟨h, c, bx, bm⟩, t1, t2⟩
