/-! LEVEL 3: the loops of take -/
set_option maxRecDepth 100000
theorem st_st {d : Dt} {a k u v : Int} : st (st d a k u) a k v = st d a k v := funext fun x => funext fun y => by
  unfold st
  by_cases z : x = a ∧ y = k
  · rw [if_pos z, if_pos z]
  · rw [if_neg z, if_neg z, if_neg z]
theorem take_150_2 {d : Dt} {P : Dt → Prop} {k : Int} (h : 0 ≤ k ∧ k ≤ d 10 4 ∧ d 10 4 ≤ 4000) (hk : d 10 7 = 2) (H : wp (fX2_take_182 (st d 10 6 (ru (isDi (d 2)) (d 10 4) k))) P) : wp (fX2_take_150 (st d 10 6 k)) P := by
  unfold fX2_take_150
  refine wp_loop (n := (d 10 4 - k).toNat) (fun n s => ∃ j, s = st d 10 6 j ∧ (d 10 4 - j).toNat = n ∧ (0 ≤ j ∧ j ≤ d 10 4) ∧ ru (isDi (d 2)) (d 10 4) j = ru (isDi (d 2)) (d 10 4) k) (fun n s hs => ?_) ⟨k, rfl, rfl, ⟨h.1, h.2.1⟩, rfl⟩
  obtain ⟨j, rfl, j1, j2, j3⟩ := hs
  unfold fX2_take_150f
  dsimp only
  have e7 : st d 10 6 j 10 7 = d 10 7 := st_nk (by decide)
  have e4 : st d 10 6 j 10 4 = d 10 4 := st_nk (by decide)
  have e2 : st d 10 6 j 2 = d 2 := st_row (by decide)
  rw [e7, if_pos hk, wp_b1, st_eq]
  refine (isDigit_X j2.1 (by rw [e4]; exact h.2.2)).mono fun r hr => ?_
  rw [e4, e2] at hr
  by_cases q : j < d 10 4 ∧ isDi (d 2) j = true
  · rw [if_pos q] at hr
    rw [if_neg (by omega), wp_sd, wp_some, w32_of (show (-2147483648 : Int) ≤ j + 1 by omega) (show j + 1 ≤ (2147483647 : Int) by omega), st_st]
    exact ⟨(d 10 4 - (j + 1)).toNat, by omega, j + 1, rfl, rfl, by omega, by rw [← j3, ru_go q.1 q.2]⟩
  · rw [if_neg q] at hr
    rw [if_pos hr, wp_up]
    rw [← j3, ru_no q] at H
    exact H
theorem take_150_n {d : Dt} {P : Dt → Prop} (hk : d 10 7 ≠ 2) (H : wp (fX2_take_182 d) P) : wp (fX2_take_150 d) P := by
  unfold fX2_take_150
  refine loop_wp ?_
  unfold fX2_take_150f
  dsimp only
  rw [if_neg hk, wp_up]
  exact H.mono fun r hr => ⟨r, rfl, hr⟩
theorem take_118_1 {d : Dt} {P : Dt → Prop} {k : Int} (h : 0 ≤ k ∧ k ≤ d 10 4 ∧ d 10 4 ≤ 4000) (hk : d 10 7 = 1) (H : wp (fX2_take_182 (st d 10 6 (ru (isLe (d 2)) (d 10 4) k))) P) : wp (fX2_take_118 (st d 10 6 k)) P := by
  unfold fX2_take_118
  refine wp_loop (n := (d 10 4 - k).toNat) (fun n s => ∃ j, s = st d 10 6 j ∧ (d 10 4 - j).toNat = n ∧ (0 ≤ j ∧ j ≤ d 10 4) ∧ ru (isLe (d 2)) (d 10 4) j = ru (isLe (d 2)) (d 10 4) k) (fun n s hs => ?_) ⟨k, rfl, rfl, ⟨h.1, h.2.1⟩, rfl⟩
  obtain ⟨j, rfl, j1, j2, j3⟩ := hs
  unfold fX2_take_118f
  dsimp only
  have e7 : st d 10 6 j 10 7 = d 10 7 := st_nk (by decide)
  have e4 : st d 10 6 j 10 4 = d 10 4 := st_nk (by decide)
  have e2 : st d 10 6 j 2 = d 2 := st_row (by decide)
  rw [e7, if_pos hk, wp_b1, st_eq]
  refine (isLetter_X j2.1 (by rw [e4]; exact h.2.2)).mono fun r hr => ?_
  rw [e4, e2] at hr
  by_cases q : j < d 10 4 ∧ isLe (d 2) j = true
  · rw [if_pos q] at hr
    rw [if_neg (by omega), wp_sd, wp_some, w32_of (show (-2147483648 : Int) ≤ j + 1 by omega) (show j + 1 ≤ (2147483647 : Int) by omega), st_st]
    exact ⟨(d 10 4 - (j + 1)).toNat, by omega, j + 1, rfl, rfl, by omega, by rw [← j3, ru_go q.1 q.2]⟩
  · rw [if_neg q] at hr
    rw [if_pos hr, wp_up]
    rw [← j3, ru_no q] at H
    exact take_150_n (by rw [e7, hk]; decide) H
theorem take_118_n {d : Dt} {P : Dt → Prop} (hk : d 10 7 ≠ 1) (H : wp (fX2_take_150 d) P) : wp (fX2_take_118 d) P := by
  unfold fX2_take_118
  refine loop_wp ?_
  unfold fX2_take_118f
  dsimp only
  rw [if_neg hk, wp_up]
  exact H.mono fun r hr => ⟨r, rfl, hr⟩
