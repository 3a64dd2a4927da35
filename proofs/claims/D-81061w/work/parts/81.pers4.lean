/-! LEVEL 3: what is asked and told of persons -/
set_option maxRecDepth 100000
theorem isP_X {d : Dt} {p : Int} (h : 0 ≤ d 1 5 ∧ d 1 5 ≤ 60) : fX0_isPerson d p = 0 ↔ ¬ (0 ≤ p ∧ p < d 1 5) := by
  unfold fX0_isPerson
  rw [w32_of (show (-2147483648 : Int) ≤ d 1 5 - 1 by omega) (show d 1 5 - 1 ≤ (2147483647 : Int) by omega), within_1]
  omega
theorem isP_M {d : Dt} {p : Int} (h : 0 ≤ d 1545 10 ∧ d 1545 10 ≤ 60) : fX11_isPerson d p = 0 ↔ ¬ (0 ≤ p ∧ p < d 1545 10) := by
  unfold fX11_isPerson
  rw [w32_of (show (-2147483648 : Int) ≤ d 1545 10 - 1 by omega) (show d 1545 10 - 1 ≤ (2147483647 : Int) by omega), in_1]
  omega
theorem isD_X {t : Int} : fX12_isDay t = 0 ↔ ¬ (-36524 ≤ t ∧ t ≤ 36524) := within_1
theorem isD_M {t : Int} : fX11_isDay t = 0 ↔ ¬ (-36524 ≤ t ∧ t ≤ 36524) := in_1
theorem R4.adX {m d : Dt} {p t : Int} (h : R4 m d) (p0 : 0 ≤ p) (p1 : p < d 1 5) : wp (fX13_address d (d 9 p) t) (fun v => wp (fX11_addressOn d p t) (fun u => u = v ∧ Ad (fun k => d 1558 (10 * p + k)) (fun k => d 1559 (10 * p + k)) (d 1557 p) t v)) := by
  obtain ⟨c1, c2⟩ := h.2.2.1 p p0 p1
  obtain ⟨-, -, ⟨e1, e2, e3⟩, -⟩ := c2
  have b := h.2.1
  refine (address_X e2 e3).mono fun v hv => ?_
  rw [e1] at hv e2
  exact (addressOn_M ⟨p0, by omega⟩ e2).mono fun u hu => ⟨hu.uni hv, hv⟩
theorem op_addressOf {m d : Dt} {a1 a2 : Int} (h4 : R4 m d) : wp (fX0_addressOf d a1 a2) (fun r => wp (fX11_addressOf d a1 a2) (fun q => q = r)) := by
  have h4' := h4
  obtain ⟨a, b, c, -⟩ := h4
  unfold fX0_addressOf fX11_addressOf
  have i1 := isP_X (p := a1) b
  have i2 := isP_M (d := d) (p := a1) (by rw [← a]; exact b)
  rw [← a] at i2
  by_cases q1 : 0 ≤ a1 ∧ a1 < d 1 5
  · rw [if_neg (fun q => i1.mp q q1), if_neg (fun q => i2.mp q q1)]
    by_cases q2 : -36524 ≤ a2 ∧ a2 ≤ 36524
    · rw [if_neg (fun q => isD_X.mp q q2), if_neg (fun q => isD_M.mp q q2)]
      have x0 := (c a1 q1.1 q1.2).1.1
      simp only [wp_ck, wp_sd, wp_lv, wp_lm, wp_some, wp_b1, wp_bd, wp_b2, wp_b3, wp_up, wp_map]
      refine ⟨by omega, by omega, (h4'.adX q1.1 q1.2).mono fun v hv => hv.mono fun u hu => hu.1⟩
    · rw [if_pos (isD_X.mpr q2), if_pos (isD_M.mpr q2), wp_some, wp_some]
  · rw [if_pos (i1.mpr q1), if_pos (i2.mpr q1), wp_some, wp_some]
/-- the last fact that speaks -/
def fcF (K Y F T : Int → Int) (kd t : Int) : Nat → Int
  | 0 => 0
  | n + 1 => if K n = kd ∧ F n ≤ t ∧ t ≤ T n then Y n else fcF K Y F T kd t n
theorem fcF_cg {K Y F T K' Y' F' T' : Int → Int} {kd t : Int} : ∀ n : Nat, (∀ k : Int, 0 ≤ k → k < n → K k = K' k ∧ Y k = Y' k ∧ F k = F' k ∧ T k = T' k) → fcF K Y F T kd t n = fcF K' Y' F' T' kd t n := by
  intro n
  induction n with
  | zero => intro _; rfl
  | succ n ih =>
    intro h
    obtain ⟨e1, e2, e3, e4⟩ := h n (by omega) (by omega)
    simp only [fcF, e1, e2, e3, e4]
    rw [ih fun k k0 k1 => h k k0 (by omega)]
theorem fcF_in {K Y F T : Int → Int} {kd t : Int} : ∀ n : Nat, (∀ k : Int, 0 ≤ k → k < n → 0 ≤ Y k ∧ Y k ≤ 1) → 0 ≤ fcF K Y F T kd t n ∧ fcF K Y F T kd t n ≤ 1 := by
  intro n
  induction n with
  | zero => intro _; exact ⟨Int.le_refl _, (show (0 : Int) ≤ 1 by decide)⟩
  | succ n ih =>
    intro h
    simp only [fcF]
    split
    · exact h n (by omega) (by omega)
    · exact ih fun k k0 k1 => h k k0 (by omega)
theorem fcF_S {K Y F T : Int → Int} {kd t k : Int} (h : 0 ≤ k) : fcF K Y F T kd t (k + 1).toNat = if K k = kd ∧ F k ≤ t ∧ t ≤ T k then Y k else fcF K Y F T kd t k.toNat := by
  obtain ⟨n, rfl⟩ := Int.eq_ofNat_of_zero_le h
  rw [show ((n : Int) + 1).toNat = n + 1 by omega, show (n : Int).toNat = n by omega]
  rfl
theorem isSo_X {d : Dt} {o kd t : Int} (hn : 0 ≤ d o 13 ∧ d o 13 ≤ 12) : wp (fX13_is d o kd t) (fun v => v = fcF (d (o + 3)) (d (o + 4)) (d (o + 5)) (d (o + 6)) kd t (d o 13).toNat) := by
  unfold fX13_is fX13_is_5
  refine wp_up2 (fun k v => v = fcF (d (o + 3)) (d (o + 4)) (d (o + 5)) (d (o + 6)) kd t k.toNat) 0 (d o 13) hn.1 (fun v k k0 k1 hI => ?_) (fun v hI => ?_) rfl
  · subst hI
    unfold fX13_is_5f
    dsimp only
    rw [if_neg (by omega), wp_ck, fcF_S k0]
    refine ⟨by omega, ?_⟩
    by_cases q1 : d (o + 3) k = kd
    · rw [if_pos q1]
      by_cases q2 : d (o + 5) k ≤ t ∧ t ≤ d (o + 6) k
      · rw [if_neg (within_0.mpr q2), if_pos ⟨q1, q2⟩]
        simp only [wp_ck, wp_sd, wp_lv, wp_lm, wp_some, wp_b1, wp_bd, wp_b2, wp_b3, wp_up, wp_map, w32_of (show (-2147483648 : Int) ≤ k + 1 by omega) (show k + 1 ≤ (2147483647 : Int) by omega)]
        exact Or.inl ⟨_, rfl, rfl⟩
      · rw [if_pos (within_1.mpr q2), if_neg (fun q => q2 q.2)]
        simp only [wp_ck, wp_sd, wp_lv, wp_lm, wp_some, wp_b1, wp_bd, wp_b2, wp_b3, wp_up, wp_map, w32_of (show (-2147483648 : Int) ≤ k + 1 by omega) (show k + 1 ≤ (2147483647 : Int) by omega)]
        exact Or.inl ⟨_, rfl, rfl⟩
    · rw [if_neg q1, if_neg (fun q => q1 q.1)]
      simp only [wp_ck, wp_sd, wp_lv, wp_lm, wp_some, wp_b1, wp_bd, wp_b2, wp_b3, wp_up, wp_map, w32_of (show (-2147483648 : Int) ≤ k + 1 by omega) (show k + 1 ≤ (2147483647 : Int) by omega)]
      exact Or.inl ⟨_, rfl, rfl⟩
  · subst hI
    unfold fX13_is_5f
    dsimp only
    rw [if_pos (by omega), wp_up, wp_some]
    exact ⟨_, rfl, rfl⟩
theorem isSo_M {d : Dt} {p kd t : Int} (hp : 0 ≤ p ∧ p < 60) (hn : 0 ≤ d 1560 p ∧ d 1560 p ≤ 12) : wp (fX11_isSo d p kd t) (fun v => v = if fcF (fun k => d 1561 (12 * p + k)) (fun k => d 1562 (12 * p + k)) (fun k => d 1563 (12 * p + k)) (fun k => d 1564 (12 * p + k)) kd t (d 1560 p).toNat = 1 then 1 else 0) := by
  unfold fX11_isSo fX11_isSo_9
  rw [wp_lv, w32_of (show (-2147483648 : Int) ≤ 12 * p by omega) (show 12 * p ≤ (2147483647 : Int) by omega)]
  refine wp_up2 (fun k v => v = fcF (fun k => d 1561 (12 * p + k)) (fun k => d 1562 (12 * p + k)) (fun k => d 1563 (12 * p + k)) (fun k => d 1564 (12 * p + k)) kd t (k - 12 * p).toNat) (12 * p) (12 * p + d 1560 p) (by omega) (fun v k k0 k1 hI => ?_) (fun v hI => ?_) (by rw [show 12 * p - 12 * p = 0 by omega]; rfl)
  · subst hI
    unfold fX11_isSo_9f
    dsimp only
    rw [wp_ck, w32_of (show (-2147483648 : Int) ≤ 12 * p by omega) (show 12 * p ≤ (2147483647 : Int) by omega), w32_of (show (-2147483648 : Int) ≤ 12 * p + d 1560 p by omega) (show 12 * p + d 1560 p ≤ (2147483647 : Int) by omega), if_neg (by omega), wp_ck, show k + 1 - 12 * p = k - 12 * p + 1 by omega, fcF_S (show 0 ≤ k - 12 * p by omega), show 12 * p + (k - 12 * p) = k by omega]
    refine ⟨hp, by omega, ?_⟩
    by_cases q1 : d 1561 k = kd
    · rw [if_pos q1]
      by_cases q2 : d 1563 k ≤ t ∧ t ≤ d 1564 k
      · rw [if_neg (fun q => in_1.mp q q2), if_pos ⟨q1, q2⟩]
        simp only [wp_ck, wp_sd, wp_lv, wp_lm, wp_some, wp_b1, wp_bd, wp_b2, wp_b3, wp_up, wp_map, w32_of (show (-2147483648 : Int) ≤ k + 1 by omega) (show k + 1 ≤ (2147483647 : Int) by omega)]
        exact Or.inl ⟨_, rfl, rfl⟩
      · rw [if_pos (in_1.mpr q2), if_neg (fun q => q2 q.2)]
        simp only [wp_ck, wp_sd, wp_lv, wp_lm, wp_some, wp_b1, wp_bd, wp_b2, wp_b3, wp_up, wp_map, w32_of (show (-2147483648 : Int) ≤ k + 1 by omega) (show k + 1 ≤ (2147483647 : Int) by omega)]
        exact Or.inl ⟨_, rfl, rfl⟩
    · rw [if_neg q1, if_neg (fun q => q1 q.1)]
      simp only [wp_ck, wp_sd, wp_lv, wp_lm, wp_some, wp_b1, wp_bd, wp_b2, wp_b3, wp_up, wp_map, w32_of (show (-2147483648 : Int) ≤ k + 1 by omega) (show k + 1 ≤ (2147483647 : Int) by omega)]
      exact Or.inl ⟨_, rfl, rfl⟩
  · rw [show 12 * p + d 1560 p - 12 * p = d 1560 p by omega] at hI
    rw [← hI]
    unfold fX11_isSo_9f
    dsimp only
    rw [wp_ck, w32_of (show (-2147483648 : Int) ≤ 12 * p by omega) (show 12 * p ≤ (2147483647 : Int) by omega), w32_of (show (-2147483648 : Int) ≤ 12 * p + d 1560 p by omega) (show 12 * p + d 1560 p ≤ (2147483647 : Int) by omega), if_pos (by omega), wp_up]
    refine ⟨hp, ?_⟩
    by_cases q : v = 1
    · rw [if_pos q, if_pos q, wp_some]; exact ⟨_, rfl, rfl⟩
    · rw [if_neg q, if_neg q, wp_some]; exact ⟨_, rfl, rfl⟩
theorem R4.isX {m d : Dt} {p kd t : Int} (h : R4 m d) (p0 : 0 ≤ p) (p1 : p < d 1 5) : wp (fX13_is d (d 9 p) kd t) (fun v => wp (fX11_isSo d p kd t) (fun u => u = v ∧ (v = 0 ∨ v = 1))) := by
  obtain ⟨c1, c2⟩ := h.2.2.1 p p0 p1
  obtain ⟨-, -, -, e1, e2, e3⟩ := c2
  have b := h.2.1
  refine (isSo_X e2).mono fun v hv => ?_
  have e4 := e2
  rw [e1] at e4
  refine (isSo_M ⟨p0, by omega⟩ e4).mono fun u hu => ?_
  have r := fcF_in (K := d (d 9 p + 3)) (Y := d (d 9 p + 4)) (F := d (d 9 p + 5)) (T := d (d 9 p + 6)) (kd := kd) (t := t) (d (d 9 p) 13).toNat (fun k k0 k1 => (e3 k k0 (by omega)).2.2.1)
  rw [← e1, ← fcF_cg (K := d (d 9 p + 3)) (Y := d (d 9 p + 4)) (F := d (d 9 p + 5)) (T := d (d 9 p + 6)) (d (d 9 p) 13).toNat (fun k k0 k1 => by have := e3 k k0 (by omega); exact ⟨this.1, this.2.1, this.2.2.2.1, this.2.2.2.2⟩), ← hv] at hu
  rw [← hv] at r
  by_cases q : v = 1
  · rw [if_pos q] at hu; omega
  · rw [if_neg q] at hu; omega
theorem op_is {m d : Dt} {a1 a2 a3 : Int} (h4 : R4 m d) : wp (fX0_is d a1 a2 a3) (fun r => wp (fX11_is d a1 a2 a3) (fun q => q = r)) := by
  have h4' := h4
  obtain ⟨a, b, c, -⟩ := h4
  unfold fX0_is fX11_is
  have i1 := isP_X (p := a1) b
  have i2 := isP_M (d := d) (p := a1) (by rw [← a]; exact b)
  rw [← a] at i2
  by_cases q1 : 0 ≤ a1 ∧ a1 < d 1 5
  · rw [if_neg (fun q => i1.mp q q1), if_neg (fun q => i2.mp q q1)]
    by_cases q3 : 0 ≤ a2 ∧ a2 ≤ 9
    · rw [if_neg (within_0.mpr q3), if_neg (fun q => in_1.mp q q3)]
      by_cases q2 : -36524 ≤ a3 ∧ a3 ≤ 36524
      · rw [if_neg (fun q => isD_X.mp q q2), if_neg (fun q => isD_M.mp q q2)]
        have x0 := (c a1 q1.1 q1.2).1.1
        simp only [wp_ck, wp_sd, wp_lv, wp_lm, wp_some, wp_b1, wp_bd, wp_b2, wp_b3, wp_up, wp_map]
        refine ⟨by omega, by omega, (h4'.isX q1.1 q1.2).mono fun v hv => hv.mono fun u hu => ?_⟩
        obtain ⟨e, f⟩ := hu
        by_cases z : u = 0
        · rw [if_pos z, wp_some]; omega
        · rw [if_neg z, wp_some]; omega
      · rw [if_pos (isD_X.mpr q2), if_pos (isD_M.mpr q2), wp_some, wp_some]
    · rw [if_pos (within_1.mpr q3), if_pos (in_1.mpr q3), wp_some, wp_some]
  · rw [if_pos (i1.mpr q1), if_pos (i2.mpr q1), wp_some, wp_some]
