/-! LEVEL 3: the next sign is taken -/
set_option maxRecDepth 100000
/-- the value of digits from a on -/
def dgV (t : Int → Int) (a : Int) : Nat → Int
  | 0 => 0
  | n + 1 => 10 * dgV t a n + t (a + n) - 48
theorem dgV_in {t : Int → Int} {a : Int} : ∀ n : Nat, (∀ k : Int, 0 ≤ k → k < n → isDi t (a + k) = true) → 0 ≤ dgV t a n ∧ dgV t a n < 10 ^ n := by
  intro n
  induction n with
  | zero => intro _; exact ⟨Int.le_refl _, (show (0 : Int) < 10 ^ 0 by decide)⟩
  | succ n ih =>
    intro h
    have i := ih fun k k0 k1 => h k k0 (by omega)
    have g := of_decide_eq_true (h n (by omega) (by omega))
    simp only [dgV]
    rw [Int.pow_succ]
    omega
/-- a number's value: at most five digits count -/
def nuV (t : Int → Int) (a e : Int) : Int := if e - a ≤ 5 then dgV t a (e - a).toNat else 99999
theorem numberHere_X {d : Dt} (h : 0 ≤ d 10 5 ∧ d 10 5 ≤ d 10 6 ∧ d 10 6 ≤ 4000) (hd : ∀ k, d 10 5 ≤ k → k < d 10 6 → isDi (d 2) k = true) : wp (fX2_numberHere d) (fun q => q = st d 10 8 (q 10 8) ∧ q 10 8 = nuV (d 2) (d 10 5) (d 10 6)) := by
  unfold fX2_numberHere fX2_numberHere_10
  rw [wp_sd, wp_lv, st_nk (by decide)]
  have dd : ∀ u v : Int, st (st d 10 8 u) 10 8 v = st d 10 8 v := fun u v => funext fun x => funext fun y => by
    unfold st
    by_cases z : x = 10 ∧ y = 8
    · rw [if_pos z, if_pos z]
    · rw [if_neg z, if_neg z, if_neg z]
  have e5 : ∀ v, st d 10 8 v 10 5 = d 10 5 := fun v => st_nk (by decide)
  have e6 : ∀ v, st d 10 8 v 10 6 = d 10 6 := fun v => st_nk (by decide)
  have e2 : ∀ v k, st d 10 8 v 2 k = d 2 k := fun v k => st_na (by decide)
  have fin : ∀ v, (d 10 6 - d 10 5 ≤ 5 → v = dgV (d 2) (d 10 5) (d 10 6 - d 10 5).toNat) → wp (fX2_numberHere_58 (st d 10 8 v)) (fun q => q = st d 10 8 (q 10 8) ∧ q 10 8 = nuV (d 2) (d 10 5) (d 10 6)) := fun v hv => by
    unfold fX2_numberHere_58 fX2_numberHere_81 nuV
    rw [e5, e6, w32_of (show (-2147483648 : Int) ≤ d 10 6 - d 10 5 by omega) (show d 10 6 - d 10 5 ≤ (2147483647 : Int) by omega)]
    by_cases q : 5 < d 10 6 - d 10 5
    · rw [if_pos q, wp_sd, wp_some, dd, st_eq, if_neg (by omega)]
      exact ⟨rfl, rfl⟩
    · rw [if_neg q, wp_sd, wp_some, dd, st_eq, st_eq, if_pos (by omega)]
      exact ⟨rfl, hv (by omega)⟩
  by_cases q : 5 < d 10 6 - d 10 5
  · refine loop_wp ?_
    unfold fX2_numberHere_10f
    dsimp only
    rw [e6, e5, if_neg (by omega), w32_of (show (-2147483648 : Int) ≤ d 10 6 - d 10 5 by omega) (show d 10 6 - d 10 5 ≤ (2147483647 : Int) by omega), if_pos q, wp_up]
    exact (fin 0 (fun z => by omega)).mono fun r hr => ⟨r, rfl, hr⟩
  · refine wp_for (fun k D => D = st d 10 8 (dgV (d 2) (d 10 5) (k - d 10 5).toNat)) (d 10 5) (d 10 6) h.2.1 (fun k D k0 k1 hI => ?_) (fun D hI => ?_) (by rw [show d 10 5 - d 10 5 = 0 by omega]; rfl)
    · subst hI
      have b := dgV_in (t := d 2) (a := d 10 5) (k - d 10 5).toNat (fun j j0 j1 => hd _ (by omega) (by omega))
      have b2 := (show ∀ n : Nat, n < 5 → (10 : Int) ^ n ≤ 100000 by decide) (k - d 10 5).toNat (by omega)
      have g := of_decide_eq_true (hd k k0 k1)
      unfold fX2_numberHere_10f
      dsimp only
      rw [e6, e5, if_neg (by omega), w32_of (show (-2147483648 : Int) ≤ d 10 6 - d 10 5 by omega) (show d 10 6 - d 10 5 ≤ (2147483647 : Int) by omega), if_neg q, wp_ck, wp_sd, wp_lv, wp_some, e2, st_eq, dd]
      refine ⟨by omega, _, by rw [w32_of (show (-2147483648 : Int) ≤ k + 1 by omega) (show k + 1 ≤ (2147483647 : Int) by omega)], ?_⟩
      generalize hv : dgV (d 2) (d 10 5) (k - d 10 5).toNat = v at *
      rw [w32_of (show (-2147483648 : Int) ≤ 10 * v by omega) (show 10 * v ≤ (2147483647 : Int) by omega), w32_of (show (-2147483648 : Int) ≤ 10 * v + d 2 k by omega) (show 10 * v + d 2 k ≤ (2147483647 : Int) by omega), w32_of (show (-2147483648 : Int) ≤ 10 * v + d 2 k - 48 by omega) (show 10 * v + d 2 k - 48 ≤ (2147483647 : Int) by omega), show (k + 1 - d 10 5).toNat = (k - d 10 5).toNat + 1 by omega]
      simp only [dgV, hv]
      rw [show d 10 5 + ((k - d 10 5).toNat : Int) = k by omega]
    · subst hI
      unfold fX2_numberHere_10f
      dsimp only
      rw [e6, if_pos (Int.le_refl _), wp_up]
      exact (fin _ (fun _ => rfl)).mono fun r hr => ⟨r, rfl, hr⟩
/-- which word the sign is -/
def woV (t : Int → Int) (a e r : Int) : Prop := (r = -1 ∧ ∀ k, 0 ≤ k → k < 55 → ¬ Mt t a e (-(10 + 2 * k))) ∨ ((0 ≤ r ∧ r < 55) ∧ Mt t a e (-(10 + 2 * r)))
theorem take_182 {d : Dt} (hw : Wo d) (h : 0 ≤ d 10 5 ∧ d 10 5 ≤ d 10 6 ∧ d 10 6 ≤ 4000) (h2 : d 10 7 = 2 → ∀ k, d 10 5 ≤ k → k < d 10 6 → isDi (d 2) k = true) (h3 : d 10 7 = 3 → d 10 5 < 4000) : wp (fX2_take_182 d) (fun q => (∀ x y, ¬ (x = 10 ∧ (y = 6 ∨ y = 8)) → q x y = d x y) ∧ (d 10 7 ≠ 3 → q 10 6 = d 10 6) ∧ (d 10 7 = 1 → woV (d 2) (d 10 5) (d 10 6) (q 10 8)) ∧ (d 10 7 = 2 → q 10 8 = nuV (d 2) (d 10 5) (d 10 6)) ∧ (d 10 7 = 3 → q 10 6 = d 10 6 + 1 ∧ q 10 8 = d 2 (d 10 5))) := by
  unfold fX2_take_182
  have o8 : ∀ v x y, ¬ (x = 10 ∧ (y = 6 ∨ y = 8)) → st d 10 8 v x y = d x y := fun v x y q => by
    unfold st
    rw [if_neg (fun z => q ⟨z.1, Or.inr z.2⟩)]
  by_cases q1 : d 10 7 = 1
  · rw [if_pos q1, wp_b1]
    refine (wordHere_X hw h).mono fun r hr => ?_
    rw [wp_sd, wp_some]
    refine ⟨o8 r, fun _ => st_nk (by decide), fun _ => by rw [st_eq]; exact hr, fun z => by omega, fun z => by omega⟩
  · rw [if_neg q1]
    by_cases q2 : d 10 7 = 2
    · rw [if_pos q2, wp_bd]
      refine (numberHere_X h (h2 q2)).mono fun D hD => ?_
      rw [wp_some]
      obtain ⟨e1, e2⟩ := hD
      refine ⟨fun x y z => by rw [e1]; exact o8 _ x y z, fun _ => by rw [e1]; exact st_nk (by decide), fun z => by omega, fun _ => e2, fun z => by omega⟩
    · rw [if_neg q2]
      by_cases q3 : d 10 7 = 3
      · have := h3 q3
        rw [if_pos q3, wp_lv, wp_ck, wp_sd, wp_sd, wp_some, st_nk (by decide), w32_of (show (-2147483648 : Int) ≤ d 10 6 + 1 by omega) (show d 10 6 + 1 ≤ (2147483647 : Int) by omega)]
        refine ⟨by omega, fun x y z => ?_, fun z => absurd q3 z, fun z => by omega, fun z => by omega, fun _ => ⟨st_eq _ _ _ _, ?_⟩⟩
        · unfold st
          rw [if_neg (fun w => z ⟨w.1, Or.inl w.2⟩), if_neg (fun w => z ⟨w.1, Or.inr w.2⟩)]
        · rw [st_nk (by decide), st_eq]
      · rw [if_neg q3, wp_some]
        exact ⟨fun _ _ _ => rfl, fun _ => rfl, fun z => by omega, fun z => by omega, fun z => by omega⟩
