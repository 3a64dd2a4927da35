/-! LEVEL 3: areas and borders -/
set_option maxRecDepth 100000
def arOf (P : Int → Bool) (v : Int → Int) : Nat → Int
  | 0 => -1
  | n + 1 => if P n = true then v n else arOf P v n
def arP (d : Dt) (kind a y : Int) (k : Int) : Bool := decide (d 4 (d 5 k) = kind ∧ (d 6 k ≤ a ∧ a ≤ d 7 k) ∧ d 8 k ≤ y)
theorem arP_iff {d : Dt} {kind a y k : Int} : arP d kind a y k = true ↔ d 4 (d 5 k) = kind ∧ (d 6 k ≤ a ∧ a ≤ d 7 k) ∧ d 8 k ≤ y := by
  unfold arP
  exact decide_eq_true_iff
def arX (d : Dt) (kind a y : Int) : Int := arOf (arP d kind a y) (d 5) (d 3 6).toNat
theorem arX_in {d : Dt} {kind a y : Int} (h3 : R3 d) : -1 ≤ arX d kind a y ∧ arX d kind a y < d 3 1 := by
  obtain ⟨t1, t2, t3, t4, t5, t6⟩ := h3
  have : ∀ n : Nat, (n : Int) ≤ d 3 6 → -1 ≤ arOf (arP d kind a y) (d 5) n ∧ arOf (arP d kind a y) (d 5) n < d 3 1 := by
    intro n
    induction n with
    | zero => intro _; simp only [arOf]; omega
    | succ n ih =>
      intro hn
      simp only [arOf]
      split
      · have := (t6 n (by omega) (by omega)).2.1
        omega
      · exact ih (by omega)
  exact this _ (by omega)
theorem areaOf_X {d : Dt} {kind a y : Int} (h3 : R3 d) : wp (fX1_areaOf d kind a y) (fun r => r = arX d kind a y) := by
  obtain ⟨t1, t2, t3, t4, t5, t6⟩ := h3
  unfold fX1_areaOf fX1_areaOf_8
  simp only [wp_ck, wp_sd, wp_lv, wp_lm, wp_some, wp_b1, wp_bd, wp_b2, wp_b3, wp_up, wp_map, w32_of (show (-2147483648 : Int) ≤ d 3 6 - 1 by omega) (show d 3 6 - 1 ≤ (2147483647 : Int) by omega)]
  unfold arX
  refine wp_loop (n := (d 3 6).toNat) (fun n s => s = (n : Int) - 1 ∧ (n : Int) ≤ d 3 6 ∧ arOf (arP d kind a y) (d 5) (d 3 6).toNat = arOf (arP d kind a y) (d 5) n) (fun n s hs => ?_) ⟨by omega, by omega, rfl⟩
  obtain ⟨rfl, i2, i3⟩ := hs
  rw [i3]
  unfold fX1_areaOf_8f
  dsimp only
  cases n with
  | zero =>
    rw [if_pos (by omega)]
    simp only [wp_ck, wp_sd, wp_lv, wp_lm, wp_some, wp_b1, wp_bd, wp_b2, wp_b3, wp_up, wp_map]
    rfl
  | succ n =>
    have e : ((n + 1 : Nat) : Int) - 1 = (n : Int) := by omega
    rw [e, if_neg (by omega)]
    have g := (t6 n (by omega) (by omega)).2.1
    simp only [wp_ck, wp_sd, wp_lv, wp_lm, wp_some, wp_b1, wp_bd, wp_b2, wp_b3, wp_up, wp_map, w32_of (show (-2147483648 : Int) ≤ (n : Int) + (-1) by omega) (show (n : Int) + (-1) ≤ (2147483647 : Int) by omega)]
    refine ⟨by omega, by omega, ?_⟩
    simp only [arOf]
    have i4 : arOf (arP d kind a y) (d 5) (d 3 6).toNat = if arP d kind a y n = true then d 5 n else arOf (arP d kind a y) (d 5) n := i3
    simp only [wp_ite, wp_ck, wp_sd, wp_lv, wp_lm, wp_some, wp_b1, wp_bd, wp_b2, wp_b3, wp_up, wp_map]
    refine ⟨fun q1 => ⟨fun q2 => ?_, fun q2 => ⟨fun q3 => ?_, fun q3 => ?_⟩⟩, fun q1 => ?_⟩
    · rw [if_neg (fun q => within_1.mp q2 (arP_iff.mp q).2.1)] at i4 ⊢
      exact ⟨n, by omega, by omega, by omega, i4.symm ▸ i4⟩
    · rw [if_neg (fun q => by have := (arP_iff.mp q).2.2; omega)] at i4 ⊢
      exact ⟨n, by omega, by omega, by omega, i4.symm ▸ i4⟩
    · rw [if_pos (arP_iff.mpr ⟨q1, within_0.mp q2, by omega⟩)]
    · rw [if_neg (fun q => q1 (arP_iff.mp q).1)] at i4 ⊢
      exact ⟨n, by omega, by omega, by omega, i4.symm ▸ i4⟩
theorem lies_71 {d : Dt} {a1 a2 a3 v4 v5 s0 : Int} (h : 0 ≤ v5 ∧ v5 < 60) (hs : s0 = 0 ∨ s0 = 1) : fX11_lies_71 d a1 a2 a3 v4 v5 s0 = some (.inl (if s0 = 0 then v4 else d 1548 v5, v5 + 1)) := by
  unfold fX11_lies_71
  have e : w32 (v5 + 1) = v5 + 1 := w32_of (show (-2147483648 : Int) ≤ v5 + 1 by omega) (show v5 + 1 ≤ (2147483647 : Int) by omega)
  rcases hs with rfl | rfl
  · rw [if_pos rfl, if_pos rfl]; unfold lv; rw [e]
  · rw [if_neg (by decide), if_neg (by decide), ck_pos h]; unfold lv; rw [e]
theorem lies_M {d : Dt} {kind a y : Int} (h3 : R3 d) : wp (fX11_lies d kind a y) (fun r => r = arX d kind a y) := by
  obtain ⟨t1, t2, t3, t4, t5, t6⟩ := h3
  unfold fX11_lies fX11_lies_6
  unfold arX
  refine wp_up2 (fun k v => v = arOf (arP d kind a y) (d 5) k.toNat) 0 (d 3 6) (by omega) (fun v k k0 k1 hI => ?_) (fun v hI => ?_) rfl
  · unfold fX11_lies_6f
    dsimp only
    rw [← t4, if_neg (by omega)]
    obtain ⟨g1, g2, g3, g4, g5⟩ := t6 k k0 k1
    have gk := (t3 (d 5 k) (by omega) (by omega)).1
    have ek : (k + 1).toNat = k.toNat + 1 := by omega
    have ek2 : ((k.toNat : Nat) : Int) = k := by omega
    have hk : 0 ≤ k ∧ k < 60 := by omega
    have harr : arOf (arP d kind a y) (d 5) (k + 1).toNat = if arP d kind a y k = true then d 5 k else v := by
      rw [ek]
      simp only [arOf]
      rw [ek2, ← hI]
    rw [harr]
    simp only [wp_ck, wp_sd, wp_lv, wp_lm, wp_some, wp_b1, wp_bd, wp_b2, wp_b3, wp_up, wp_map, ← g1, ← g3, ← g4, ← g5, ← gk]
    refine ⟨hk, by omega, ?_⟩
    simp only [wp_ite]
    refine ⟨fun q1 => ⟨fun q2 => ?_, fun q2 => ⟨fun q3 => ?_, fun q3 => ?_⟩⟩, fun q1 => ?_⟩
    · rw [lies_71 hk (Or.inl rfl), wp_some, if_pos rfl, if_neg (fun q => in_1.mp q2 (arP_iff.mp q).2.1)]
      exact Or.inl ⟨_, rfl, rfl⟩
    · rw [lies_71 hk (Or.inl rfl), wp_some, if_pos rfl, if_neg (fun q => by have := (arP_iff.mp q).2.2; omega)]
      exact Or.inl ⟨_, rfl, rfl⟩
    · have q2' : d 6 k ≤ a ∧ a ≤ d 7 k := by
        by_cases z : d 6 k ≤ a ∧ a ≤ d 7 k
        · exact z
        · exact absurd (in_1.mpr z) q2
      rw [lies_71 hk (Or.inr rfl), wp_some, if_neg (by decide), if_pos (arP_iff.mpr ⟨q1, q2', by omega⟩), ← g1]
      exact Or.inl ⟨_, rfl, rfl⟩
    · rw [lies_71 hk (Or.inl rfl), wp_some, if_pos rfl, if_neg (fun q => q1 (arP_iff.mp q).1)]
      exact Or.inl ⟨_, rfl, rfl⟩
  · unfold fX11_lies_6f
    dsimp only
    rw [← t4, if_pos (by omega)]
    simp only [wp_ck, wp_sd, wp_lv, wp_lm, wp_some, wp_b1, wp_bd, wp_b2, wp_b3, wp_up, wp_map]
    exact ⟨_, rfl, hI⟩
theorem op_areaOf {d : Dt} {a1 a2 a3 : Int} (h3 : R3 d) : wp (fX0_areaOf d a1 a2 a3) (fun r => wp (fX11_areaOf d a1 a2 a3) (fun q => q = r)) := by
  have hM : ∀ r, wp (fX11_areaOf d a1 a2 a3) (fun q => q = r) ↔ ((0 ≤ a1 ∧ a1 ≤ 2) ∧ (0 ≤ a2 ∧ a2 ≤ 999) ∧ (-36524 ≤ a3 ∧ a3 ≤ 36524) → arX d a1 a2 a3 = r) ∧ (¬ ((0 ≤ a1 ∧ a1 ≤ 2) ∧ (0 ≤ a2 ∧ a2 ≤ 999) ∧ (-36524 ≤ a3 ∧ a3 ≤ 36524)) → -2 = r) := by
    intro r
    unfold fX11_areaOf fX11_isDay
    by_cases q1 : 0 ≤ a1 ∧ a1 ≤ 2
    · rw [if_neg (fun q => in_1.mp q q1)]
      by_cases q2 : 0 ≤ a2 ∧ a2 ≤ 999
      · rw [if_neg (fun q => in_1.mp q q2)]
        by_cases q3 : -36524 ≤ a3 ∧ a3 ≤ 36524
        · rw [if_neg (fun q => in_1.mp q q3)]
          simp only [wp_ck, wp_sd, wp_lv, wp_lm, wp_some, wp_b1, wp_bd, wp_b2, wp_b3, wp_up, wp_map]
          obtain ⟨z, e, rfl⟩ := lies_M (kind := a1) (a := a2) (y := a3) h3
          rw [e, wp_some]
          exact ⟨fun h => ⟨fun _ => h, fun n => absurd ⟨q1, q2, q3⟩ n⟩, fun h => h.1 ⟨q1, q2, q3⟩⟩
        · rw [if_pos (in_1.mpr q3), wp_some]
          exact ⟨fun h => ⟨fun n => absurd n.2.2 q3, fun _ => h⟩, fun h => h.2 (fun n => q3 n.2.2)⟩
      · rw [if_pos (in_1.mpr q2), wp_some]
        exact ⟨fun h => ⟨fun n => absurd n.2.1 q2, fun _ => h⟩, fun h => h.2 (fun n => q2 n.2.1)⟩
    · rw [if_pos (in_1.mpr q1), wp_some]
      exact ⟨fun h => ⟨fun n => absurd n.1 q1, fun _ => h⟩, fun h => h.2 (fun n => q1 n.1)⟩
  simp only [hM]
  unfold fX0_areaOf fX12_isDay
  by_cases q1 : 0 ≤ a1 ∧ a1 ≤ 2
  · rw [if_neg (within_0.mpr q1)]
    by_cases q2 : 0 ≤ a2 ∧ a2 ≤ 999
    · rw [if_neg (within_0.mpr q2)]
      by_cases q3 : -36524 ≤ a3 ∧ a3 ≤ 36524
      · rw [if_neg (within_0.mpr q3)]
        simp only [wp_ck, wp_sd, wp_lv, wp_lm, wp_some, wp_b1, wp_bd, wp_b2, wp_b3, wp_up, wp_map]
        exact (areaOf_X h3).mono fun r hr => ⟨fun _ => hr.symm, fun n => absurd ⟨q1, q2, q3⟩ n⟩
      · rw [if_pos (within_1.mpr q3), wp_some]
        exact ⟨fun n => absurd n.2.2 q3, fun _ => rfl⟩
    · rw [if_pos (within_1.mpr q2), wp_some]
      exact ⟨fun n => absurd n.2.1 q2, fun _ => rfl⟩
  · rw [if_pos (within_1.mpr q1), wp_some]
    exact ⟨fun n => absurd n.1 q1, fun _ => rfl⟩
