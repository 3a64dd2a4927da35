/-! LEVEL 3: age is asked; the book's head -/
set_option maxRecDepth 100000
/-- whether a law stands, and its EVE -/
def Rev (d : Dt) : Prop := (d 1 9 = 0 ↔ d 1545 45 = 0) ∧ (d 1 9 ≠ 0 → d 1 7 ≠ 0 ∧ (d (d 1 7) 1 = 0 ↔ d 1545 46 = 0))
theorem bdY_ev {k e y : Int} {P Q : Prop} [Decidable P] [Decidable Q] (h : P ↔ Q) : bdY k e P y = bdY k e Q y := by
  unfold bdY
  simp only [h]
theorem R4.age {m d : Dt} {p t ev : Int} (h : R4 m d) (p0 : 0 ≤ p) (p1 : p < d 1 5) (hev : ev ≠ 0 ↔ d 1545 45 ≠ 0 ∧ d 1545 46 ≠ 0) : wp (fX13_age d (d 9 p) t ev) (fun v => wp (fX11_ageOn d p t) (fun u => u = v)) := by
  have b := h.2.1
  obtain ⟨c1, c2⟩ := h.2.2.1 p p0 p1
  obtain ⟨⟨e1, e2, e3, e4, e5, e6⟩, -⟩ := c2
  by_cases q : d (d 9 p) 3 ≤ t
  · refine (age_X e1 q).mono fun v hv => ?_
    refine ageOn_M ⟨p0, by omega⟩ (by rw [← e2, ← e3, ← e4]; exact e1) (by omega) ?_
    rw [← e2, ← e3, ← e4]
    refine ⟨hv.1, fun z z0 z1 => ?_⟩
    rw [← hv.2 z z0 z1, bdY_ev hev]
  · unfold fX13_age
    rw [if_neg q, wp_some]
    unfold fX11_ageOn
    rw [wp_ck, if_neg (by omega), wp_some]
    exact ⟨⟨p0, by omega⟩, rfl⟩
theorem op_age {m d : Dt} {a1 a2 : Int} (h4 : R4 m d) (he : Rev d) : wp (fX0_age d a1 a2) (fun r => wp (fX11_age d a1 a2) (fun q => q = r)) := by
  have h4' := h4
  obtain ⟨a, b, c, -⟩ := h4
  unfold fX0_age fX11_age
  have i1 := isP_X (p := a1) b
  have i2 := isP_M (d := d) (p := a1) (by rw [← a]; exact b)
  rw [← a] at i2
  by_cases q1 : 0 ≤ a1 ∧ a1 < d 1 5
  · rw [if_neg (fun q => i1.mp q q1), if_neg (fun q => i2.mp q q1)]
    by_cases q2 : -36524 ≤ a2 ∧ a2 ≤ 36524
    · rw [if_neg (fun q => isD_X.mp q q2), if_neg (fun q => isD_M.mp q q2)]
      have x0 := (c a1 q1.1 q1.2).1.1
      obtain ⟨v1, v2⟩ := he
      have go : ∀ ev, (ev ≠ 0 ↔ d 1545 45 ≠ 0 ∧ d 1545 46 ≠ 0) → wp (fX0_age_53 d a1 a2 (d 9 a1) a2 ev) (fun r => wp (b1 (fX11_ageOn d a1 a2) fun x3 => some x3) (fun q => q = r)) := fun ev hev => by
        unfold fX0_age_53
        simp only [wp_ck, wp_sd, wp_lv, wp_lm, wp_some, wp_b1, wp_bd, wp_b2, wp_b3, wp_up, wp_map]
        exact (h4'.age q1.1 q1.2 hev).mono fun v hv => hv
      rw [wp_ck, wp_lv, wp_ck]
      refine ⟨by omega, by omega, ?_⟩
      by_cases z : d 1 9 = 0
      · rw [if_pos z]
        exact go 0 ⟨fun r => absurd rfl r, fun r => absurd (v1.mp z) r.1⟩
      · rw [if_neg z, wp_lv, wp_ck]
        obtain ⟨v3, v4⟩ := v2 z
        refine ⟨v3, ?_⟩
        by_cases y : d (d 1 7) 1 = 0
        · rw [if_pos y]
          exact go 0 ⟨fun r => absurd rfl r, fun r => absurd (v4.mp y) r.2⟩
        · rw [if_neg y]
          exact go 1 ⟨fun _ => ⟨fun r => z (v1.mpr r), fun r => y (v4.mpr r)⟩, fun _ => by decide⟩
    · rw [if_pos (isD_X.mpr q2), if_pos (isD_M.mpr q2), wp_some, wp_some]
  · rw [if_pos (i1.mpr q1), if_pos (i2.mpr q1), wp_some, wp_some]
theorem op_head {d : Dt} {a1 : Int} (h1 : R1 d) : wp (fX0_head d a1) (fun r => wp (fX11_head d a1) (fun q => q = r)) := by
  obtain ⟨h, n, bx, bm⟩ := h1
  unfold fX0_head fX11_head
  by_cases q : 0 ≤ a1 ∧ a1 ≤ 31
  · rw [if_neg (within_0.mpr q), if_neg (fun r => in_1.mp r q)]
    obtain ⟨k, j, rfl, k0, k1, j0, j1⟩ : ∃ k j : Int, a1 = 4 * k + j ∧ 0 ≤ k ∧ k < 8 ∧ 0 ≤ j ∧ j < 4 := ⟨a1 / 4, a1 % 4, by omega, by omega, by omega, by omega, by omega⟩
    unfold fX7_at
    have e1 : Int.tdiv (4 * k + j) 4 = k := by rw [Int.tdiv_eq_ediv_of_nonneg (by omega)]; omega
    have e2 : Int.tmod (4 * k + j) 4 = j := by rw [Int.tmod_eq_emod_of_nonneg (by omega)]; omega
    rw [e1, e2, w32_of (show (-2147483648 : Int) ≤ k by omega) (show k ≤ (2147483647 : Int) by omega)]
    simp only [wp_ck, wp_sd, wp_lv, wp_lm, wp_some, wp_b1, wp_bd, wp_b2, wp_b3, wp_up, wp_map]
    refine ⟨⟨k0, k1⟩, by omega, ?_⟩
    rw [bm.1 k j k0 k1 j0 j1, (bx.1 k k0 k1).1]
    exact bAnd_byt
  · rw [if_pos (within_1.mpr q), if_pos (in_1.mpr q), wp_some, wp_some]
