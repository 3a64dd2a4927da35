/-! the check of 366, faster: by the rows of the allocations -/
def noj (j : Int) (L : List (Int × Int × Int × Int)) : Bool := L.all fun e => !(e.1 == j)
theorem noj_gtw {j k : Int} : ∀ {L : List (Int × Int × Int × Int)} {q : Option (Int × Int)}, noj j L = true → gtw j k L q = q
  | [], _, _ => rfl
  | (j', k', v, r) :: L, q, h => by
    simp only [noj, List.all_cons, Bool.and_eq_true, Bool.not_eq_true', beq_eq_false_iff_ne] at h
    simp only [gtw]
    rw [if_neg h.1]
    exact noj_gtw (L := L) (by simp only [noj]; exact h.2)
def mlj (j n : Int) (L : List (Int × Int × Int × Int)) : Bool := (L.all fun e => !(e.1 == j) || (e.2.1 == -1 && e.2.2.1 == n)) && (L.any fun e => e.1 == j)
theorem mlj_some {j n i : Int} (hi : 0 ≤ i ∧ i < n) : ∀ {L : List (Int × Int × Int × Int)} {q : Option (Int × Int)}, (L.all fun e => !(e.1 == j) || (e.2.1 == -1 && e.2.2.1 == n)) = true → (q = some (j + 1 + i, 1) ∨ (L.any fun e => e.1 == j) = true) → gtw j i L q = some (j + 1 + i, 1)
  | [], _, _, h => by
    rcases h with h | h
    · exact h
    · cases h
  | (j', k', v, r) :: L, q, h, h2 => by
    simp only [List.all_cons, Bool.and_eq_true, Bool.or_eq_true, Bool.not_eq_true', beq_eq_false_iff_ne, beq_iff_eq] at h
    simp only [List.any_cons, Bool.or_eq_true, beq_iff_eq] at h2
    simp only [gtw]
    by_cases e : j' = j
    · obtain ⟨e1, e2⟩ := h.1.resolve_left (fun q => q e)
      subst e; subst e2
      rw [if_pos rfl, if_pos e1, if_pos hi]
      exact mlj_some hi (L := L) h.2 (Or.inl rfl)
    · rw [if_neg e]
      refine mlj_some hi (L := L) h.2 ?_
      rcases h2 with h2 | h2 | h2
      · exact Or.inl h2
      · exact absurd h2 e
      · exact Or.inr h2
def gtm (j : Int) : List (Int × Int × Int × Int) → Option (Int × Int × Int × Int)
  | [] => none
  | (t, n, t2, n2) :: L => if j = 0 then some (t, n, t2, n2) else if t2 = 0 then gtm (j - 1) L else if j ≤ n then none else gtm (j - 1 - n) L
theorem gtm_gta {t n t2 n2 i : Int} (h2 : t2 ≠ 0) (hi : 0 ≤ i ∧ i < n) : ∀ {T : List (Int × Int × Int × Int)} {j : Int}, alOk T = true → 0 ≤ j → gtm j T = some (t, n, t2, n2) → gta (j + 1 + i) T = some (t2, n2)
  | [], _, _, _, h => by cases h
  | (a, b, c, e) :: T, j, hT, hj, h => by
    simp only [alOk, List.all_cons, Bool.and_eq_true, decide_eq_true_eq] at hT
    have hL : alOk T = true := by simp only [alOk]; exact hT.2
    simp only [gtm] at h
    simp only [gta]
    by_cases e0 : j = 0
    · rw [if_pos e0] at h
      cases h
      rw [if_neg (by omega), if_neg h2, if_pos (by omega)]
    · rw [if_neg e0] at h
      rw [if_neg (by omega)]
      by_cases e1 : c = 0
      · rw [if_pos e1] at h ⊢
        have := gtm_gta h2 hi hL (by omega) h
        rw [show j + 1 + i - 1 = j - 1 + 1 + i by omega]
        exact this
      · rw [if_neg e1] at h ⊢
        by_cases e2 : j ≤ b
        · rw [if_pos e2] at h; cases h
        · rw [if_neg e2] at h
          rw [if_neg (by omega)]
          have := gtm_gta h2 hi hL (by omega) h
          rw [show j + 1 + i - 1 - b = j - 1 - b + 1 + i by omega]
          exact this
def ckf (L T : List (Int × Int × Int × Int)) (j : Int) (c k : Nat) : Bool :=
  ((k_of c k == 0) || ((gtw j k L none == some (j + k_of c k, 1)) && decide (0 < j + k_of c k) && (gta (j + k_of c k) T == some (k_tg (k_ty c k), k_ln c k)) &&
    ((k_es c k == 0) || (k_es c k == 1 && k_eb c k == k_of c k + 1 && mlj (j + k_of c k) (k_ln c k) L && !(k_et c k == 0) && (gtm (j + k_of c k) T == some (k_tg (k_ty c k), k_ln c k, k_et c k, k_e2 c k))) || (List.range (k_ln c k).toNat).all fun i => (gtw (j + k_of c k) i L none == some (j + k_eb c k + k_es c k * i, 1)) && decide (0 < j + k_eb c k + k_es c k * i) && (gta (j + k_eb c k + k_es c k * i) T == some (k_et c k, k_e2 c k))))) &&
  ((!isRT (k_ty c k)) || rfok T (k_tg (k_ty c k)) (gtw j k L none))
def ckc2 (L T : List (Int × Int × Int × Int)) (j : Int) (c : Nat) : Bool := (List.range (k_N c)).all fun k => ckf L T j c k
theorem ckc2_ok {L T : List (Int × Int × Int × Int)} {j : Int} {c : Nat} (hT : alOk T = true) (h : ckc2 L T j c = true) : ckc L T j c = true := by
  unfold ckc
  rw [List.all_eq_true]
  intro k hk
  have h1 := List.all_eq_true.mp h k hk
  unfold ckf at h1
  simp only [Bool.and_eq_true, Bool.or_eq_true] at h1 ⊢
  obtain ⟨h1, h2⟩ := h1
  refine ⟨?_, h2⟩
  rcases h1 with h1 | ⟨⟨⟨a1, a2⟩, a3⟩, a4⟩
  · exact Or.inl h1
  · refine Or.inr ⟨⟨⟨a1, a2⟩, a3⟩, ?_⟩
    rcases a4 with (a4 | ⟨⟨⟨⟨b1, b2⟩, b3⟩, b4⟩, b5⟩) | a4
    · exact Or.inl a4
    · right
      rw [List.all_eq_true]
      intro i hi
      have hi := List.mem_range.mp hi
      simp only [beq_iff_eq, decide_eq_true_eq, Bool.not_eq_true', beq_eq_false_iff_ne] at b1 b2 b4 b5 a2
      simp only [mlj, Bool.and_eq_true] at b3
      have hi2 : 0 ≤ (i : Int) ∧ (i : Int) < k_ln c k := by omega
      have g1 := mlj_some hi2 (q := none) b3.1 (Or.inr b3.2)
      have g2 := gtm_gta b4 hi2 hT (Int.le_of_lt a2) b5
      rw [b1, b2]
      simp only [Bool.and_eq_true, beq_iff_eq, decide_eq_true_eq]
      refine ⟨⟨?_, by omega⟩, ?_⟩
      · rw [g1, show j + (k_of c k + 1) + 1 * (i : Int) = j + k_of c k + 1 + i by omega]
      · rw [show j + (k_of c k + 1) + 1 * (i : Int) = j + k_of c k + 1 + i by omega]; exact g2
    · exact Or.inr a4
def cka2 (L T : List (Int × Int × Int × Int)) (j t n : Int) : Bool := (!isRT (k_el t)) || noj j L || (List.range n.toNat).all fun i => rfok T (k_tg (k_el t)) (gtw j i L none)
theorem cka2_ok {L T : List (Int × Int × Int × Int)} {j t n : Int} (h : cka2 L T j t n = true) : cka L T j t n = true := by
  unfold cka2 at h
  unfold cka
  simp only [Bool.or_eq_true] at h ⊢
  rcases h with (h | h) | h
  · exact Or.inl h
  · right
    rw [List.all_eq_true]
    intro i _
    rw [noj_gtw h]
    rfl
  · exact Or.inr h
/-- along the rows; those of arrays of arrays: the inner ones hold no references, the outer ones the inner ones -/
def ckT (L T : List (Int × Int × Int × Int)) : List (Int × Int × Int × Int) → Int → Bool
  | [], _ => true
  | (t, n, t2, n2) :: R, j => (if t2 = 0 then (if 0 < t ∧ t ≤ 20 then ckc2 L T j (t - 1).toNat else if 100 < t then cka2 L T j t n else true) && ckT L T R (j + 1)
      else decide (100 < t) && decide (100 < t2) && !isRT (k_el t2) && decide (0 ≤ n) && mlj j n L && (k_tg (k_el t) == t2) && ckT L T R (j + 1 + n))
theorem ckT_ok {L T : List (Int × Int × Int × Int)} (hT : alOk T = true) : ∀ {R : List (Int × Int × Int × Int)} {j0 : Int}, 0 ≤ j0 → alOk R = true → (∀ j, 0 ≤ j → gta (j0 + j) T = gta j R) → ckT L T R j0 = true → ∀ j, 0 ≤ j → j < alN R → ckj L T (j0 + j) = true
  | [], _, _, _, _, _, j, h0, h1 => by simp only [alN] at h1; omega
  | (t, n, t2, n2) :: R, j0, hj0, hR, hg, h, j, h0, h1 => by
    simp only [alOk, List.all_cons, Bool.and_eq_true, decide_eq_true_eq] at hR
    have hL : alOk R = true := by simp only [alOk]; exact hR.2
    simp only [ckT] at h
    simp only [alN] at h1
    by_cases e : t2 = 0
    · rw [if_pos e] at h h1
      simp only [Bool.and_eq_true] at h
      by_cases e0 : j = 0
      · subst e0
        unfold ckj
        rw [hg 0 (by omega)]
        simp only [gta]
        rw [if_pos trivial]
        simp only
        rw [show j0 + 0 = j0 by omega]
        by_cases c1 : 0 < t ∧ t ≤ 20
        · rw [if_pos c1] at h ⊢
          exact ckc2_ok hT h.1
        · rw [if_neg c1] at h ⊢
          by_cases c2 : 100 < t
          · rw [if_pos c2] at h ⊢
            exact cka2_ok h.1
          · rw [if_neg c2]
      · have := ckT_ok hT (R := R) (j0 := j0 + 1) (by omega) hL (fun j hj => by
          have := hg (j + 1) (by omega)
          simp only [gta] at this
          rw [if_neg (by omega), if_pos e] at this
          rw [show j0 + 1 + j = j0 + (j + 1) by omega, this, show j + 1 - 1 = j by omega]) h.2 (j - 1) (by omega) (by omega)
        rw [show j0 + 1 + (j - 1) = j0 + j by omega] at this
        exact this
    · rw [if_neg e] at h h1
      simp only [Bool.and_eq_true, decide_eq_true_eq, Bool.not_eq_true', beq_iff_eq] at h
      obtain ⟨⟨⟨⟨⟨⟨a1, a2⟩, a3⟩, a4⟩, a5⟩, a6⟩, a7⟩ := h
      by_cases e0 : j = 0
      · subst e0
        unfold ckj
        rw [hg 0 (by omega)]
        simp only [gta]
        rw [if_pos trivial]
        simp only
        rw [show j0 + 0 = j0 by omega, if_neg (by omega), if_pos a1]
        unfold cka
        simp only [Bool.or_eq_true]
        right
        rw [List.all_eq_true]
        intro i hi
        have hi := List.mem_range.mp hi
        simp only [mlj, Bool.and_eq_true] at a5
        rw [mlj_some (show 0 ≤ (i : Int) ∧ (i : Int) < n by omega) (q := none) a5.1 (Or.inr a5.2)]
        simp only [rfok]
        rw [if_neg (by decide)]
        have g := hg (1 + i) (by omega)
        simp only [gta] at g
        rw [if_neg (by omega), if_neg e, if_pos (by omega)] at g
        rw [show j0 + 1 + (i : Int) = j0 + (1 + i) by omega, g]
        simp only [Bool.and_eq_true, decide_eq_true_eq, beq_iff_eq]
        exact ⟨by omega, a6.symm⟩
      · by_cases e1 : j ≤ n
        · unfold ckj
          rw [hg j h0]
          simp only [gta]
          rw [if_neg e0, if_neg e, if_pos e1]
          simp only
          rw [if_neg (by omega), if_pos a2]
          unfold cka
          rw [a3]
          rfl
        · have := ckT_ok hT (R := R) (j0 := j0 + 1 + n) (by omega) hL (fun j hj => by
            have := hg (j + 1 + n) (by omega)
            simp only [gta] at this
            rw [if_neg (by omega), if_neg e, if_neg (by omega)] at this
            rw [show j0 + 1 + n + j = j0 + (j + 1 + n) by omega, this, show j + 1 + n - 1 - n = j by omega]) a7 (j - 1 - n) (by omega) (by omega)
          rw [show j0 + 1 + n + (j - 1 - n) = j0 + j by omega] at this
          exact this
theorem chk_of {L T : List (Int × Int × Int × Int)} {n : Nat} (hT : alOk T = true) (hn : alN T = n) (h : ckT L T T 0 = true) : chk L T n = true := by
  unfold chk
  rw [List.all_eq_true]
  intro j hj
  have hj := List.mem_range.mp hj
  have := ckT_ok hT (R := T) (j0 := 0) (by omega) hT (fun j _ => by rw [show 0 + j = j by omega]) h (j : Int) (by omega) (by omega)
  rw [show 0 + (j : Int) = j by omega] at this
  exact this
