/-! LEVEL 3: the calendar -/
set_option maxRecDepth 100000
def ylen (y : Int) : Int := if Int.tmod y 4 = 0 ∧ y ≠ 1900 then 366 else 365
def mlen (y k : Int) : Int := if k = 2 then (if Int.tmod y 4 = 0 ∧ y ≠ 1900 then 29 else 28) else if k = 4 ∨ k = 6 ∨ k = 9 ∨ k = 11 then 30 else 31
def msum (y : Int) : Nat → Int
  | 0 => 0
  | n + 1 => msum y n + mlen y (n + 1)
def ybase (y : Int) : Int := 365 * (y - 1900) + (if y ≤ 1900 then 0 else (y - 1901) / 4) - 36524
/-- the day's number -/
def dnum (y k e : Int) : Int := e - 1 + msum y (k - 1).toNat + ybase y
def isDt (y k e lo : Int) : Prop := (lo ≤ y ∧ y ≤ 2099) ∧ (1 ≤ k ∧ k ≤ 12) ∧ 1 ≤ e ∧ e ≤ mlen y k
theorem mlen_in (y k : Int) : 28 ≤ mlen y k ∧ mlen y k ≤ 31 := by
  unfold mlen
  split
  · split <;> omega
  · split <;> omega
theorem ylen_in (y : Int) : 365 ≤ ylen y ∧ ylen y ≤ 366 := by
  unfold ylen
  split <;> omega
theorem lengthOf_X (y k : Int) : fX12_lengthOf y k = mlen y k := by
  unfold fX12_lengthOf fX12_isLong mlen
  by_cases a : k = 2
  · rw [if_pos a, if_pos a]
    by_cases b : Int.tmod y 4 = 0
    · rw [if_pos b]
      by_cases c : y = 1900
      · rw [if_pos c, if_pos rfl, if_neg (fun q => q.2 c)]
      · rw [if_neg c, if_neg (by decide), if_pos ⟨b, c⟩]
    · rw [if_neg b, if_pos rfl, if_neg (fun q => b q.1)]
  · rw [if_neg a, if_neg a]
    repeat' split
    all_goals first | rfl | omega
theorem yearDays_M (y : Int) : fX11_yearDays y = ylen y := by
  unfold fX11_yearDays fX11_yearDays_19 ylen
  by_cases b : Int.tmod y 4 = 0
  · rw [if_pos b]
    by_cases c : y = 1900
    · rw [if_pos c, if_neg (fun q => q.2 c)]
    · rw [if_neg c, if_pos ⟨b, c⟩]
  · rw [if_neg b, if_neg (fun q => b q.1)]
theorem monthDays_M (y k : Int) : fX11_monthDays y k = mlen y k := by
  unfold fX11_monthDays mlen
  rw [yearDays_M]
  have h := ylen_in y
  by_cases a : k = 2
  · rw [if_pos a, if_pos a, w32_of (show (-2147483648 : Int) ≤ ylen y - 337 by omega) (show ylen y - 337 ≤ (2147483647 : Int) by omega)]
    unfold ylen
    split <;> rfl
  · rw [if_neg a, if_neg a]
    repeat' split
    all_goals first | rfl | omega
theorem is_X {y k e lo : Int} : fX12_is y k e lo = 0 ↔ ¬ isDt y k e lo := by
  unfold fX12_is isDt
  rw [lengthOf_X]
  by_cases a : lo ≤ y ∧ y ≤ 2099
  · rw [if_neg (within_0.mpr a)]
    by_cases b : 1 ≤ k ∧ k ≤ 12
    · rw [if_neg (within_0.mpr b)]
      by_cases c : 1 ≤ e ∧ e ≤ mlen y k
      · rw [if_neg (within_0.mpr c)]
        exact ⟨fun q => (by cases q), fun q => absurd ⟨a, b, c⟩ q⟩
      · rw [if_pos (within_1.mpr c)]
        exact ⟨fun _ q => c q.2.2, fun _ => rfl⟩
    · rw [if_pos (within_1.mpr b)]
      exact ⟨fun _ q => b q.2.1, fun _ => rfl⟩
  · rw [if_pos (within_1.mpr a)]
    exact ⟨fun _ q => a q.1, fun _ => rfl⟩
theorem msum_in (y : Int) : ∀ n : Nat, 0 ≤ msum y n ∧ msum y n ≤ 31 * n
  | 0 => by simp [msum]
  | n + 1 => by
    have h1 := msum_in y n
    have h2 := mlen_in y (n + 1)
    simp only [msum]
    omega
theorem ybase_S {y : Int} (h : 1900 ≤ y) : ybase (y + 1) = ybase y + ylen y := by
  unfold ybase ylen
  have e : Int.tmod y 4 = y % 4 := Int.tmod_eq_emod_of_nonneg (by omega)
  rw [e]
  by_cases a : y % 4 = 0 ∧ y ≠ 1900
  · rw [if_pos a]
    split <;> split <;> omega
  · rw [if_neg a]
    split <;> split <;> omega
theorem ybase_2000 : ybase 2000 = 0 := by decide
theorem ybase_in {y : Int} (h : 1900 ≤ y ∧ y ≤ 2100) : -36524 ≤ ybase y ∧ ybase y ≤ 36525 := by
  unfold ybase
  split <;> omega
theorem of_X {y k e : Int} (hy : 1900 ≤ y ∧ y ≤ 2099) (hk : 1 ≤ k ∧ k ≤ 12) (he : -1000 ≤ e ∧ e ≤ 1000) : wp (fX12_of y k e) (fun r => r = dnum y k e) := by
  unfold fX12_of fX12_of_7
  simp only [wp_ck, wp_sd, wp_lv, wp_lm, wp_some, wp_b1, wp_bd, wp_b2, wp_b3, wp_up, wp_map, w32_of (show (-2147483648 : Int) ≤ e - 1 by omega) (show e - 1 ≤ (2147483647 : Int) by omega)]
  refine wp_up2 (fun j v => v = e - 1 + msum y (j - 1).toNat) 1 k (by omega) (fun v j j0 j1 hI => ?_) (fun v hI => ?_) (by simp [msum])
  · unfold fX12_of_7f
    dsimp only
    rw [if_neg (by omega), lengthOf_X]
    have h1 := msum_in y (j - 1).toNat
    have h2 := mlen_in y j
    subst hI
    have ej : (j + 1 - 1).toNat = (j - 1).toNat + 1 := by omega
    have ej2 : (((j - 1).toNat : Nat) : Int) + 1 = j := by omega
    simp only [wp_ck, wp_sd, wp_lv, wp_lm, wp_some, wp_b1, wp_bd, wp_b2, wp_b3, wp_up, wp_map, w32_of (show (-2147483648 : Int) ≤ j + 1 by omega) (show j + 1 ≤ (2147483647 : Int) by omega), w32_of (show (-2147483648 : Int) ≤ e - 1 + msum y (j - 1).toNat + mlen y j by omega) (show e - 1 + msum y (j - 1).toNat + mlen y j ≤ (2147483647 : Int) by omega)]
    refine Or.inl ⟨_, rfl, ?_⟩
    rw [ej]
    simp only [msum]
    rw [ej2]
    omega
  · unfold fX12_of_7f
    dsimp only
    rw [if_pos (by omega)]
    have h1 := msum_in y (k - 1).toNat
    subst hI
    unfold fX12_of_57
    simp only [w32_of (show (-2147483648 : Int) ≤ y - 1900 by omega) (show y - 1900 ≤ (2147483647 : Int) by omega), w32_of (show (-2147483648 : Int) ≤ y - 1901 by omega) (show y - 1901 ≤ (2147483647 : Int) by omega), w32_of (show (-2147483648 : Int) ≤ 365 * (y - 1900) by omega) (show 365 * (y - 1900) ≤ (2147483647 : Int) by omega), w32_of (show (-2147483648 : Int) ≤ e - 1 + msum y (k - 1).toNat + 365 * (y - 1900) by omega) (show e - 1 + msum y (k - 1).toNat + 365 * (y - 1900) ≤ (2147483647 : Int) by omega)]
    unfold dnum ybase
    by_cases q : y ≤ 1900
    · rw [if_pos q, if_pos q]
      simp only [wp_ck, wp_sd, wp_lv, wp_lm, wp_some, wp_b1, wp_bd, wp_b2, wp_b3, wp_up, wp_map]
      rw [w32_of (show (-2147483648 : Int) ≤ e - 1 + msum y (k - 1).toNat + 365 * (y - 1900) + 0 by omega) (show e - 1 + msum y (k - 1).toNat + 365 * (y - 1900) + 0 ≤ (2147483647 : Int) by omega), w32_of (show (-2147483648 : Int) ≤ e - 1 + msum y (k - 1).toNat + 365 * (y - 1900) + 0 + (-36524) by omega) (show e - 1 + msum y (k - 1).toNat + 365 * (y - 1900) + 0 + (-36524) ≤ (2147483647 : Int) by omega)]
      exact ⟨_, rfl, by omega⟩
    · rw [if_neg q, if_neg q]
      have e4 : Int.tdiv (y - 1901) 4 = (y - 1901) / 4 := Int.tdiv_eq_ediv_of_nonneg (by omega)
      simp only [wp_ck, wp_sd, wp_lv, wp_lm, wp_some, wp_b1, wp_bd, wp_b2, wp_b3, wp_up, wp_map]
      rw [e4, w32_of (show (-2147483648 : Int) ≤ (y - 1901) / 4 by omega) (show (y - 1901) / 4 ≤ (2147483647 : Int) by omega), w32_of (show (-2147483648 : Int) ≤ e - 1 + msum y (k - 1).toNat + 365 * (y - 1900) + (y - 1901) / 4 by omega) (show e - 1 + msum y (k - 1).toNat + 365 * (y - 1900) + (y - 1901) / 4 ≤ (2147483647 : Int) by omega), w32_of (show (-2147483648 : Int) ≤ e - 1 + msum y (k - 1).toNat + 365 * (y - 1900) + (y - 1901) / 4 + (-36524) by omega) (show e - 1 + msum y (k - 1).toNat + 365 * (y - 1900) + (y - 1901) / 4 + (-36524) ≤ (2147483647 : Int) by omega)]
      exact ⟨_, rfl, by omega⟩
theorem dayOf_101 {y k e v : Int} (hk : 1 ≤ k ∧ k ≤ 12) (hv : -100000 ≤ v ∧ v ≤ 100000) : wp (fX11_dayOf_101 y k e v 1) (fun r => r = v + msum y (k - 1).toNat) := by
  unfold fX11_dayOf_101
  refine wp_up2 (fun j z => z = v + msum y (j - 1).toNat) 1 k (by omega) (fun z j j0 j1 hI => ?_) (fun z hI => ?_) (by simp [msum])
  · unfold fX11_dayOf_101f
    dsimp only
    rw [if_neg (by omega), monthDays_M]
    have h1 := msum_in y (j - 1).toNat
    have h2 := mlen_in y j
    subst hI
    have ej : (j + 1 - 1).toNat = (j - 1).toNat + 1 := by omega
    have ej2 : (((j - 1).toNat : Nat) : Int) + 1 = j := by omega
    simp only [wp_ck, wp_sd, wp_lv, wp_lm, wp_some, wp_b1, wp_bd, wp_b2, wp_b3, wp_up, wp_map, w32_of (show (-2147483648 : Int) ≤ j + 1 by omega) (show j + 1 ≤ (2147483647 : Int) by omega), w32_of (show (-2147483648 : Int) ≤ v + msum y (j - 1).toNat + mlen y j by omega) (show v + msum y (j - 1).toNat + mlen y j ≤ (2147483647 : Int) by omega)]
    refine Or.inl ⟨_, rfl, ?_⟩
    rw [ej]
    simp only [msum]
    rw [ej2]
    omega
  · unfold fX11_dayOf_101f
    dsimp only
    rw [if_pos (by omega)]
    simp only [wp_ck, wp_sd, wp_lv, wp_lm, wp_some, wp_b1, wp_bd, wp_b2, wp_b3, wp_up, wp_map]
    exact ⟨_, rfl, hI⟩
theorem dayOf_M {y k e : Int} (h : isDt y k e 1900) : wp (fX11_dayOf y k e) (fun r => r = dnum y k e) := by
  obtain ⟨hy, hk, h1, h2⟩ := h
  have hm := mlen_in y k
  unfold fX11_dayOf
  rw [if_neg (fun q => in_1.mp q hy), if_neg (fun q => in_1.mp q hk), monthDays_M, if_neg (fun q => in_1.mp q ⟨h1, h2⟩)]
  simp only [wp_ck, wp_sd, wp_lv, wp_lm, wp_some, wp_b1, wp_bd, wp_b2, wp_b3, wp_up, wp_map, w32_of (show (-2147483648 : Int) ≤ e - 1 by omega) (show e - 1 ≤ (2147483647 : Int) by omega)]
  have h76 : ∀ v, v = e - 1 + (if y ≤ 2000 then 0 else ybase y) → wp (fX11_dayOf_76 y k e v y) (fun r => r = dnum y k e) := by
    intro v hv
    have hyb := ybase_in (y := y) (by omega)
    unfold fX11_dayOf_76
    by_cases q : 2000 ≤ y
    · refine loop_wp ?_
      unfold fX11_dayOf_76f
      dsimp only
      rw [if_pos q]
      simp only [wp_ck, wp_sd, wp_lv, wp_lm, wp_some, wp_b1, wp_bd, wp_b2, wp_b3, wp_up, wp_map]
      have hv2 : v = e - 1 + ybase y := by
        rw [hv]
        by_cases q2 : y ≤ 2000
        · have : y = 2000 := by omega
          subst this
          rw [if_pos q2, ybase_2000]
        · rw [if_neg q2]
      refine (dayOf_101 hk (by omega)).mono fun r hr => ⟨r, rfl, ?_⟩
      unfold dnum
      omega
    · rw [if_pos (by omega)] at hv
      refine wp_up2 (fun j z => z = e - 1 + ybase y - ybase j) y 2000 (by omega) (fun z j j0 j1 hI => ?_) (fun z hI => ?_) (by omega)
      · unfold fX11_dayOf_76f
        dsimp only
        rw [if_neg (by omega), yearDays_M]
        have h1 := ybase_in (y := j) (by omega)
        have h2 := ylen_in j
        have h3 := ybase_S (y := j) (by omega)
        simp only [wp_ck, wp_sd, wp_lv, wp_lm, wp_some, wp_b1, wp_bd, wp_b2, wp_b3, wp_up, wp_map, w32_of (show (-2147483648 : Int) ≤ j + 1 by omega) (show j + 1 ≤ (2147483647 : Int) by omega), w32_of (show (-2147483648 : Int) ≤ z - ylen j by omega) (show z - ylen j ≤ (2147483647 : Int) by omega)]
        exact Or.inl ⟨_, rfl, by omega⟩
      · unfold fX11_dayOf_76f
        dsimp only
        rw [if_pos (by omega)]
        rw [ybase_2000] at hI
        simp only [wp_ck, wp_sd, wp_lv, wp_lm, wp_some, wp_b1, wp_bd, wp_b2, wp_b3, wp_up, wp_map]
        refine (dayOf_101 hk (by omega)).mono fun r hr => ⟨r, rfl, ?_⟩
        unfold dnum
        omega
  unfold fX11_dayOf_53
  by_cases q : y ≤ 2000
  · refine loop_wp ?_
    unfold fX11_dayOf_53f
    dsimp only
    rw [if_pos q]
    simp only [wp_ck, wp_sd, wp_lv, wp_lm, wp_some, wp_b1, wp_bd, wp_b2, wp_b3, wp_up, wp_map]
    exact (h76 (e - 1) (by rw [if_pos q]; omega)).mono fun r hr => ⟨r, rfl, hr⟩
  · refine wp_up2 (fun j z => z = e - 1 + ybase j) 2000 y (by omega) (fun z j j0 j1 hI => ?_) (fun z hI => ?_) (by rw [ybase_2000]; omega)
    · unfold fX11_dayOf_53f
      dsimp only
      rw [if_neg (by omega), yearDays_M]
      have h1 := ybase_in (y := j) (by omega)
      have h2 := ylen_in j
      have h3 := ybase_S (y := j) (by omega)
      simp only [wp_ck, wp_sd, wp_lv, wp_lm, wp_some, wp_b1, wp_bd, wp_b2, wp_b3, wp_up, wp_map, w32_of (show (-2147483648 : Int) ≤ j + 1 by omega) (show j + 1 ≤ (2147483647 : Int) by omega), w32_of (show (-2147483648 : Int) ≤ z + ylen j by omega) (show z + ylen j ≤ (2147483647 : Int) by omega)]
      exact Or.inl ⟨_, rfl, by omega⟩
    · unfold fX11_dayOf_53f
      dsimp only
      rw [if_pos (by omega)]
      simp only [wp_ck, wp_sd, wp_lv, wp_lm, wp_some, wp_b1, wp_bd, wp_b2, wp_b3, wp_up, wp_map]
      exact (h76 z (by rw [if_neg q]; exact hI)).mono fun r hr => ⟨r, rfl, hr⟩
theorem dayOf_no {y k e : Int} (h : ¬ isDt y k e 1900) : fX11_dayOf y k e = some (-2147483648) := by
  unfold fX11_dayOf fX11_dayOf_41
  rw [monthDays_M]
  by_cases a : 1900 ≤ y ∧ y ≤ 2099
  · rw [if_neg (fun q => in_1.mp q a)]
    by_cases b : 1 ≤ k ∧ k ≤ 12
    · rw [if_neg (fun q => in_1.mp q b)]
      by_cases c : 1 ≤ e ∧ e ≤ mlen y k
      · exact absurd ⟨a, b, c⟩ h
      · rw [if_pos (in_1.mpr c)]
    · rw [if_pos (in_1.mpr b)]
  · rw [if_pos (in_1.mpr a)]
/-- a date's day lies within the calendar -/
theorem dnum_in {y k e : Int} (h : isDt y k e 1900) : -36524 ≤ dnum y k e ∧ dnum y k e ≤ 37000 := by
  obtain ⟨hy, hk, h1, h2⟩ := h
  have hm := mlen_in y k
  have := ybase_in (y := y) (by omega)
  have := msum_in y (k - 1).toNat
  unfold dnum
  omega
