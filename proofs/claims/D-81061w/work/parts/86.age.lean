/-! LEVEL 3: ages -/
set_option maxRecDepth 100000
theorem msum_eq (y : Int) : ∀ n : Nat, n ≤ 11 → msum y n = msum 1900 n + if 2 ≤ n then ylen y - 365 else 0 := by
  intro n hn
  have l2 : mlen y 2 = mlen 1900 2 + (ylen y - 365) := by
    unfold mlen ylen
    simp only [if_true]
    by_cases z : Int.tmod y 4 = 0 ∧ y ≠ 1900
    · rw [if_pos z, if_pos z]; decide
    · rw [if_neg z, if_neg z]; decide
  have lo : ∀ k : Int, k ≠ 2 → mlen y k = mlen 1900 k := fun k hk => by unfold mlen; rw [if_neg hk, if_neg hk]
  induction n with
  | zero => rfl
  | succ n ih =>
    have i := ih (by omega)
    simp only [msum]
    by_cases z : n = 1
    · subst z
      have e : ((1 : Nat) : Int) + 1 = 2 := rfl
      simp only [e, l2, msum, lo 1 (by decide)] at i ⊢
      have : msum 1900 1 = msum 1900 1 := rfl
      omega
    · rw [i, lo _ (by omega)]
      by_cases q : 2 ≤ n
      · rw [if_pos q, if_pos (by omega)]; omega
      · rw [if_neg q, if_neg (by omega)]; omega
/-- the birthday of a year -/
def bdY (k e : Int) (ev : Prop) [Decidable ev] (y : Int) : Int := if k = 2 ∧ e = 29 ∧ ylen y = 365 then (if ev then dnum y 2 28 else dnum y 3 1) else dnum y k e
theorem dnum_eq {y k e : Int} (hk : 1 ≤ k ∧ k ≤ 12) : dnum y k e = e - 1 + msum 1900 (k - 1).toNat + (if 3 ≤ k then ylen y - 365 else 0) + ybase y := by
  unfold dnum
  rw [msum_eq y _ (by omega)]
  by_cases q : 3 ≤ k
  · rw [if_pos q, if_pos (by omega)]; omega
  · rw [if_neg q, if_neg (by omega)]; omega
theorem ybase_lt {y z : Int} (h : 1900 ≤ y) (hz : y < z) : ybase y + 365 ≤ ybase z := by
  unfold ybase
  split
  · split <;> omega
  · split <;> omega
theorem bdY_lt {k e : Int} {ev : Prop} [Decidable ev] {y z : Int} (hk : 1 ≤ k ∧ k ≤ 12) (h : 1900 ≤ y) (hz : y < z) : bdY k e ev y < bdY k e ev z := by
  have hb := ybase_lt h hz
  have l1 := ylen_in y
  have l2 := ylen_in z
  have c1 : msum 1900 (2 - 1 : Int).toNat = 31 := by decide
  have c2 : msum 1900 (3 - 1 : Int).toNat = 59 := by decide
  have d1 : ∀ x : Int, dnum x 2 28 = 58 + ybase x := fun x => by rw [dnum_eq (by decide), if_neg (by decide), c1]; omega
  have d2 : ∀ x : Int, dnum x 3 1 = 59 + (ylen x - 365) + ybase x := fun x => by rw [dnum_eq (by decide), if_pos (by decide), c2]; omega
  have d3 : ∀ x : Int, k = 2 → e = 29 → dnum x k e = 59 + ybase x := fun x a b => by subst a; subst b; rw [dnum_eq (by decide), if_neg (by decide), c1]; omega
  have d4 := fun x : Int => dnum_eq (y := x) (e := e) hk
  unfold bdY
  by_cases q : k = 2 ∧ e = 29
  · have a := d3 y q.1 q.2
    have b := d3 z q.1 q.2
    rw [a, b, d1, d1, d2, d2]
    by_cases ev' : ev
    · simp only [if_pos ev']
      split <;> split <;> omega
    · simp only [if_neg ev']
      split <;> split <;> omega
  · rw [if_neg (fun r => q ⟨r.1, r.2.1⟩), if_neg (fun r => q ⟨r.1, r.2.1⟩), d4, d4]
    split <;> omega
theorem isDt_y {y z k e : Int} (h : isDt y k e 1900) (hz : 1900 ≤ z ∧ z ≤ 2099) : isDt z k e 1900 ↔ ¬ (k = 2 ∧ e = 29 ∧ ylen z = 365) := by
  obtain ⟨a, b, c1, c2⟩ := h
  unfold isDt
  by_cases q : k = 2
  · subst q
    have m2 : ∀ x, mlen x 2 = ylen x - 337 := fun x => by
      unfold mlen ylen
      simp only [if_true]
      split <;> decide
    have l1 := ylen_in y
    have l2 := ylen_in z
    rw [m2] at c2 ⊢
    omega
  · have : mlen z k = mlen y k := by unfold mlen; rw [if_neg q, if_neg q]
    rw [this]
    omega
theorem birthday_X {d : Dt} {o y ev : Int} (h : isDt (d o 0) (d o 1) (d o 2) 1900) (hy : 1900 ≤ y ∧ y ≤ 2099) : wp (fX13_birthday d o y ev) (fun r => r = bdY (d o 1) (d o 2) (ev ≠ 0) y) := by
  unfold fX13_birthday bdY
  have i := isDt_y h hy
  have ml := mlen_in (d o 0) (d o 1)
  obtain ⟨a, b, c⟩ := h
  by_cases q : d o 1 = 2 ∧ d o 2 = 29 ∧ ylen y = 365
  · rw [if_pos (is_X.mpr fun r => i.mp r q), if_pos q]
    unfold fX13_birthday_23
    rw [if_neg (by decide)]
    by_cases z : ev = 0
    · rw [if_pos z, if_neg (fun r => r z), wp_b1]
      exact (of_X hy (by decide) (by decide)).mono fun r hr => wp_some.mpr hr
    · rw [if_neg z, if_pos z, wp_b1]
      exact (of_X hy (by decide) (by decide)).mono fun r hr => wp_some.mpr hr
  · rw [if_neg (fun r => is_X.mp r (i.mpr q)), if_neg q]
    unfold fX13_birthday_23
    rw [if_pos rfl, wp_b1]
    exact (of_X hy b (by omega)).mono fun r hr => wp_some.mpr hr
/-- so many birthdays of years behind a year are up to a day -/
def agP (bd : Int → Int) (y t n : Int) : Prop := (0 ≤ n ∧ y + n ≤ 2099) ∧ ∀ z, y < z → z ≤ 2099 → (bd z ≤ t ↔ z ≤ y + n)
theorem age_X {d : Dt} {o t ev : Int} (h : isDt (d o 0) (d o 1) (d o 2) 1900) (hb : d o 3 ≤ t) : wp (fX13_age d o t ev) (agP (bdY (d o 1) (d o 2) (ev ≠ 0)) (d o 0) t) := by
  unfold fX13_age fX13_age_12
  rw [if_pos hb]
  have h' := h
  obtain ⟨a, b, c⟩ := h
  have mon := fun y z => bdY_lt (k := d o 1) (e := d o 2) (ev := ev ≠ 0) (y := y) (z := z) b
  refine wp_up1 (fun n => ∀ z, d o 0 < z → z ≤ d o 0 + n → bdY (d o 1) (d o 2) (ev ≠ 0) z ≤ t) 0 (2099 - d o 0) (by omega) (fun n n0 n1 hI => ?_) (fun hI => ?_) (fun z z0 z1 => by omega)
  · unfold fX13_age_12f
    dsimp only
    rw [w32_of (show (-2147483648 : Int) ≤ d o 0 + n by omega) (show d o 0 + n ≤ (2147483647 : Int) by omega), w32_of (show (-2147483648 : Int) ≤ d o 0 + n + 1 by omega) (show d o 0 + n + 1 ≤ (2147483647 : Int) by omega), if_neg (by omega), wp_b1]
    refine (birthday_X h' (by omega)).mono fun r hr => ?_
    by_cases q : t < r
    · rw [if_pos q, wp_up, wp_some]
      refine Or.inr ⟨n, rfl, by omega, fun z z0 z1 => ⟨fun u => ?_, fun u => hI z z0 u⟩⟩
      rcases Int.lt_or_le (d o 0 + n) z with w | w
      · by_cases v : z = d o 0 + n + 1
        · subst v; omega
        · have := mon (d o 0 + n + 1) z (by omega) (by omega)
          omega
      · exact w
    · rw [if_neg q, wp_lv, wp_some, w32_of (show (-2147483648 : Int) ≤ n + 1 by omega) (show n + 1 ≤ (2147483647 : Int) by omega)]
      refine Or.inl ⟨rfl, fun z z0 z1 => ?_⟩
      by_cases v : z = d o 0 + n + 1
      · subst v; omega
      · exact hI z z0 (by omega)
  · unfold fX13_age_12f
    dsimp only
    rw [w32_of (show (-2147483648 : Int) ≤ d o 0 + (2099 - d o 0) by omega) (show d o 0 + (2099 - d o 0) ≤ (2147483647 : Int) by omega), w32_of (show (-2147483648 : Int) ≤ d o 0 + (2099 - d o 0) + 1 by omega) (show d o 0 + (2099 - d o 0) + 1 ≤ (2147483647 : Int) by omega), if_pos (by omega), wp_up, wp_some]
    exact ⟨_, rfl, by omega, fun z z0 z1 => ⟨fun _ => by omega, fun u => hI z z0 u⟩⟩
theorem ageOn_M {d : Dt} {p t n : Int} (hp : 0 ≤ p ∧ p < 60) (h : isDt (d 1553 p) (d 1554 p) (d 1555 p) 1900) (hb : d 1552 p ≤ t) (hn : agP (bdY (d 1554 p) (d 1555 p) (d 1545 45 ≠ 0 ∧ d 1545 46 ≠ 0)) (d 1553 p) t n) : wp (fX11_ageOn d p t) (fun r => r = n) := by
  unfold fX11_ageOn fX11_ageOn_24
  obtain ⟨n0, hn⟩ := hn
  have h' := h
  obtain ⟨a, b, c⟩ := h
  rw [wp_ck, if_pos hb, wp_lv, w32_of (show (-2147483648 : Int) ≤ d 1553 p + 1 by omega) (show d 1553 p + 1 ≤ (2147483647 : Int) by omega)]
  refine ⟨hp, ?_⟩
  refine wp_up2 (fun y v => v = if y - 1 ≤ d 1553 p + n then y - 1 - d 1553 p else n) (d 1553 p + 1) 2100 (by omega) (fun v y y0 y1 hI => ?_) (fun v hI => ?_) (by rw [if_pos (by omega)]; omega)
  · have st : ∀ r, r = bdY (d 1554 p) (d 1555 p) (d 1545 45 ≠ 0 ∧ d 1545 46 ≠ 0) y → wp (fX11_ageOn_128 d p t v y r) (fun r => (∃ v', r = .inl (v', y + 1) ∧ v' = if y + 1 - 1 ≤ d 1553 p + n then y + 1 - 1 - d 1553 p else n) ∨ ∃ z, r = .inr z ∧ z = n) := fun r hr => by
      have k := hn y (by omega) (by omega)
      rw [← hr] at k
      unfold fX11_ageOn_128 fX11_ageOn_142
      by_cases q : t < r
      · have k2 : ¬ y ≤ d 1553 p + n := fun w => by have := k.mpr w; omega
        have hv : v = n := by
          rw [hI]
          split <;> omega
        rw [if_pos q]
        simp only [wp_ck, wp_sd, wp_lv, wp_lm, wp_some, wp_b1, wp_bd, wp_b2, wp_b3, wp_up, wp_map, w32_of (show (-2147483648 : Int) ≤ v + 0 by omega) (show v + 0 ≤ (2147483647 : Int) by omega), w32_of (show (-2147483648 : Int) ≤ y + 1 by omega) (show y + 1 ≤ (2147483647 : Int) by omega)]
        refine Or.inl ⟨_, rfl, ?_⟩
        rw [if_neg (by omega)]; omega
      · have k2 := k.mp (by omega)
        have hv : v = y - 1 - d 1553 p := by rw [hI, if_pos (by omega)]
        rw [if_neg q]
        simp only [wp_ck, wp_sd, wp_lv, wp_lm, wp_some, wp_b1, wp_bd, wp_b2, wp_b3, wp_up, wp_map, w32_of (show (-2147483648 : Int) ≤ v + 1 by omega) (show v + 1 ≤ (2147483647 : Int) by omega), w32_of (show (-2147483648 : Int) ≤ y + 1 by omega) (show y + 1 ≤ (2147483647 : Int) by omega)]
        refine Or.inl ⟨_, rfl, ?_⟩
        rw [if_pos (by omega)]; omega
    have iy := isDt_y h' (z := y) (by omega)
    have plain : ¬ (d 1554 p = 2 ∧ d 1555 p = 29 ∧ ylen y = 365) → wp (fX11_ageOn_69 d p t v y 0) (fun r => (∃ v', r = .inl (v', y + 1) ∧ v' = if y + 1 - 1 ≤ d 1553 p + n then y + 1 - 1 - d 1553 p else n) ∨ ∃ z, r = .inr z ∧ z = n) := fun q => by
      unfold fX11_ageOn_69
      rw [if_pos rfl, wp_ck, wp_b1]
      refine ⟨hp, (dayOf_M (iy.mpr q)).mono fun r hr => st r ?_⟩
      unfold bdY
      rw [if_neg q]; exact hr
    have d28 : isDt y 2 28 1900 := ⟨by omega, by decide, by decide, (mlen_in y 2).1⟩
    have d31 : isDt y 3 1 1900 := ⟨by omega, by decide, by decide, by have := (mlen_in y 3).1; omega⟩
    unfold fX11_ageOn_24f
    dsimp only
    rw [if_neg (by omega), wp_ck, yearDays_M]
    refine ⟨hp, ?_⟩
    by_cases q1 : d 1554 p = 2
    · rw [if_pos q1]
      by_cases q2 : d 1555 p = 29
      · rw [if_pos q2]
        by_cases q3 : ylen y = 365
        · rw [if_pos q3]
          unfold fX11_ageOn_69 fX11_ageOn_121
          rw [if_neg (by decide)]
          have e31 : wp (b1 (fX11_dayOf y 3 1) fun x9 => fX11_ageOn_128 d p t v y x9) (fun r => (∃ v', r = .inl (v', y + 1) ∧ v' = if y + 1 - 1 ≤ d 1553 p + n then y + 1 - 1 - d 1553 p else n) ∨ ∃ z, r = .inr z ∧ z = n) ∨ (d 1545 45 ≠ 0 ∧ d 1545 46 ≠ 0) := by
            by_cases ev : d 1545 45 ≠ 0 ∧ d 1545 46 ≠ 0
            · exact Or.inr ev
            · refine Or.inl ?_
              rw [wp_b1]
              refine (dayOf_M d31).mono fun r hr => st r ?_
              unfold bdY
              rw [if_pos ⟨q1, q2, q3⟩, if_neg ev]; exact hr
          by_cases z1 : d 1545 45 = 0
          · rw [if_pos z1]
            rcases e31 with u | u
            · exact u
            · exact absurd z1 u.1
          · rw [if_neg z1]
            by_cases z2 : d 1545 46 = 0
            · rw [if_pos z2]
              rcases e31 with u | u
              · exact u
              · exact absurd z2 u.2
            · rw [if_neg z2, wp_b1]
              refine (dayOf_M d28).mono fun r hr => st r ?_
              unfold bdY
              rw [if_pos ⟨q1, q2, q3⟩, if_pos ⟨z1, z2⟩]; exact hr
        · rw [if_neg q3]; exact plain fun r => q3 r.2.2
      · rw [if_neg q2]; exact plain fun r => q2 r.2.1
    · rw [if_neg q1]; exact plain fun r => q1 r.1
  · unfold fX11_ageOn_24f
    dsimp only
    rw [if_pos (by omega), wp_up, wp_some]
    refine ⟨_, rfl, ?_⟩
    rw [hI]
    split <;> omega
