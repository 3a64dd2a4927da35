/-! what the first constructors leave holds what it owns: by a table's check -/
def rfok (T : List (Int × Int × Int × Int)) (tag : Int) : Option (Int × Int) → Bool
  | none => true
  | some (v, r) => if r = 0 then (v == 0 || (isSb v && tag == 120)) else (decide (0 ≤ v) && match gta v T with | some (t, _) => t == tag | none => false)
def ckc (L T : List (Int × Int × Int × Int)) (j : Int) (c : Nat) : Bool := (List.range (k_N c)).all fun k =>
  ((k_of c k == 0) || ((gtw j k L none == some (j + k_of c k, 1)) && decide (0 < j + k_of c k) && (gta (j + k_of c k) T == some (k_tg (k_ty c k), k_ln c k)) &&
    ((k_es c k == 0) || (List.range (k_ln c k).toNat).all fun i => (gtw (j + k_of c k) i L none == some (j + k_eb c k + k_es c k * i, 1)) && decide (0 < j + k_eb c k + k_es c k * i) && (gta (j + k_eb c k + k_es c k * i) T == some (k_et c k, k_e2 c k))))) &&
  ((!isRT (k_ty c k)) || rfok T (k_tg (k_ty c k)) (gtw j k L none))
def cka (L T : List (Int × Int × Int × Int)) (j t n : Int) : Bool := (!isRT (k_el t)) || (List.range n.toNat).all fun i => rfok T (k_tg (k_el t)) (gtw j i L none)
def ckj (L T : List (Int × Int × Int × Int)) (j : Int) : Bool := match gta j T with
  | none => true
  | some (t, n) => if 0 < t ∧ t ≤ 20 then ckc L T j (t - 1).toNat else if 100 < t then cka L T j t n else true
def chk (L T : List (Int × Int × Int × Int)) (n : Nat) : Bool := (List.range n).all fun j => ckj L T j
def pubF (m : Dt) (lo hi : Int) : Dt := fun x j => if j = 3 ∧ lo ≤ x ∧ x < hi then m x 1 else m x j
theorem pubF_3 {m : Dt} {lo hi x : Int} (h : lo ≤ x ∧ x < hi) : pubF m lo hi x 3 = m x 1 := by unfold pubF; rw [if_pos ⟨rfl, h.1, h.2⟩]
theorem pubF_o {m : Dt} {lo hi x j : Int} (h : j ≠ 3 ∨ x < lo ∨ hi ≤ x) : pubF m lo hi x j = m x j := by unfold pubF; rw [if_neg (by omega)]
theorem alN_nn : ∀ {L : List (Int × Int × Int × Int)}, alOk L = true → 0 ≤ alN L
  | [], _ => Int.le_refl _
  | (a, b, c, e) :: L, hL => by
    simp only [alOk, List.all_cons, Bool.and_eq_true, decide_eq_true_eq] at hL
    have := alN_nn (L := L) (by simp only [alOk]; exact hL.2)
    simp only [alN]
    split <;> omega
theorem al_far : ∀ {L : List (Int × Int × Int × Int)} {m : Dt} {x j : Int}, alOk L = true → 1 ≤ m 0 0 → m 0 0 + alN L ≤ x → al L m x j = m x j
  | [], _, _, _, _, _, _ => rfl
  | (t, n, t2, n2) :: L, m, x, j, h, hm, hx => by
    simp only [alOk, List.all_cons, Bool.and_eq_true, decide_eq_true_eq] at h
    have hL : alOk L = true := by simp only [alOk]; exact h.2
    simp only [al]
    simp only [alN] at hx
    have hp := alN_nn hL
    by_cases h2 : t2 = 0
    · rw [if_pos h2] at hx ⊢
      have hn := aln_next (t := t) (n := n) hm
      rw [al_far (L := L) hL (by omega) (by omega), aln_old (by omega) (by omega)]
    · rw [if_neg h2] at hx ⊢
      have hn := mlt_next (t := t) (n := n) (t2 := t2) (n2 := n2) hm
      rw [al_far (L := L) hL (by omega) (by omega), mlt_old (Or.inr (by omega)) h.1 (by omega)]
theorem gta_lt : ∀ {L : List (Int × Int × Int × Int)} {j : Int}, alOk L = true → 0 ≤ j → j < alN L → ∃ t n, gta j L = some (t, n)
  | [], j, _, h0, h1 => by simp only [alN] at h1; omega
  | (t, n, t2, n2) :: L, j, h, h0, h1 => by
    simp only [alOk, List.all_cons, Bool.and_eq_true, decide_eq_true_eq] at h
    have hL : alOk L = true := by simp only [alOk]; exact h.2
    simp only [alN] at h1
    simp only [gta]
    by_cases e : j = 0
    · exact ⟨t, n, by rw [if_pos e]⟩
    · rw [if_neg e]
      by_cases h2 : t2 = 0
      · rw [if_pos h2] at h1 ⊢
        exact gta_lt hL (by omega) (by omega)
      · rw [if_neg h2] at h1 ⊢
        by_cases h3 : j ≤ n
        · exact ⟨t2, n2, by rw [if_pos h3]⟩
        · rw [if_neg h3]
          exact gta_lt hL (by omega) (by omega)
theorem gta_in : ∀ {L : List (Int × Int × Int × Int)} {j t n : Int}, alOk L = true → 0 ≤ j → gta j L = some (t, n) → j < alN L
  | [], j, _, _, _, _, h => by cases h
  | (t, n, t2, n2) :: L, j, t', n', h, h0, hg => by
    simp only [alOk, List.all_cons, Bool.and_eq_true, decide_eq_true_eq] at h
    have hL : alOk L = true := by simp only [alOk]; exact h.2
    have hp := alN_nn hL
    simp only [gta] at hg
    simp only [alN]
    by_cases e : j = 0
    · split <;> omega
    · rw [if_neg e] at hg
      by_cases h2 : t2 = 0
      · rw [if_pos h2] at hg ⊢
        have := gta_in hL (by omega) hg
        omega
      · rw [if_neg h2] at hg ⊢
        by_cases h3 : j ≤ n
        · omega
        · rw [if_neg h3] at hg
          have := gta_in hL (by omega) hg
          omega
/-- o is new and blank, L is written and T allocated behind it; all of it is made -/
theorem WF.ext {w : Wd} {d m : Dt} {o : Int} {c0 : Nat} {L T : List (Int × Int × Int × Int)} (hX : WF d m) (hv : VT w d m) (ho : OB m o c0) (hc0 : c0 < 20) (h3 : m o 3 = 0) (hm : m 0 0 = o + 1) (hz : ∀ k, d o k = 0) (hs : ∀ v, isSb v = true → m v 3 = 120)
    (hL : wrOk L = true) (hT : alOk T = true) {n : Nat} (hn : alN T + 1 = n) (hk : chk L (((c0 : Int) + 1, 0, 0, 0) :: T) n = true) : WF (wr o L d) (pubF (al T m) o (o + n)) := by
  obtain ⟨w1, w2, w3⟩ := hX
  have ho1 := ho.1
  have hn1 := alN_nn hT
  -- the block
  have hT' : alOk (((c0 : Int) + 1, 0, 0, 0) :: T) = true := by simp only [alOk, List.all_cons, Bool.and_eq_true, decide_eq_true_eq]; exact ⟨by omega, hT⟩
  have hN : alN (((c0 : Int) + 1, 0, 0, 0) :: T) = n := by simp only [alN]; rw [if_pos trivial]; omega
  have tg : ∀ {j t k : Int}, 0 ≤ j → gta j (((c0 : Int) + 1, 0, 0, 0) :: T) = some (t, k) → al T m (o + j) 1 = t ∧ (j ≠ 0 → al T m (o + j) 2 = k) := by
    intro j t k hj hg
    simp only [gta] at hg
    by_cases e : j = 0
    · rw [if_pos e] at hg
      cases hg
      subst e
      rw [show o + 0 = o by omega]
      exact ⟨by rw [al_old hT (by omega) (by omega) (by omega)]; exact ho.2, fun h => absurd rfl h⟩
    · rw [if_neg e, if_pos trivial] at hg
      have := al_get (m := m) hT (by omega) (show 0 ≤ j - 1 by omega) hg
      rw [hm, show o + 1 + (j - 1) = o + j by omega] at this
      exact ⟨this.1, fun _ => this.2.1⟩
  have old : ∀ {x j : Int}, x < o → ¬ (x = 0 ∧ j = 0) → pubF (al T m) o (o + n) x j = m x j := fun hx h0 => by
    rw [pubF_o (Or.inr (Or.inl hx)), al_old hT (by omega) (by omega) h0]
  have isold : ∀ {x : Int}, m x 3 ≠ 0 → x < o := fun {x} h => by
    rcases Int.lt_or_le x (m 0 0) with q | q
    · by_cases e : x = o
      · rw [e] at h; exact absurd h3 h
      · omega
    · exact absurd (hv.2.2.1 x 3 q) h
  have far : ∀ {x j : Int}, o + n ≤ x → pubF (al T m) o (o + n) x j = 0 := fun {x j} hx => by
    rw [pubF_o (Or.inr (Or.inr hx)), al_far hT (by omega) (by omega)]
    exact hv.2.2.1 x j (by omega)
  have rd : ∀ j k, wr o L d (o + j) k = gtv o 0 (gtw j k L none) ∨ j < 0 := fun j k => by
    rcases Int.lt_or_le j 0 with q | q
    · exact Or.inr q
    · refine Or.inl (wr_get ?_)
      show d (o + j) k = 0
      by_cases e : j = 0
      · rw [e, show o + 0 = o by omega]; exact hz k
      · exact hv.2.1 _ _ (by omega)
  have rf : ∀ {q : Option (Int × Int)} {tag : Int}, rfok (((c0 : Int) + 1, 0, 0, 0) :: T) tag q = true → gtv o 0 q = 0 ∨ pubF (al T m) o (o + n) (gtv o 0 q) 3 = tag := by
    intro q tag h
    match q with
    | none => exact Or.inl rfl
    | some (v, r) =>
      simp only [rfok] at h
      simp only [gtv]
      by_cases e : r = 0
      · rw [if_pos e] at h ⊢
        simp only [Bool.or_eq_true, beq_iff_eq, Bool.and_eq_true] at h
        rcases h with h | h
        · exact Or.inl h
        · have hv3 := hs v h.1
          exact Or.inr (by rw [old (isold (by rw [hv3]; decide)) (by omega), hv3, h.2])
      · rw [if_neg e] at h ⊢
        simp only [Bool.and_eq_true, decide_eq_true_eq] at h
        obtain ⟨h0, h⟩ := h
        cases hg : gta v (((c0 : Int) + 1, 0, 0, 0) :: T) with
        | none => rw [hg] at h; cases h
        | some p =>
          obtain ⟨t, k⟩ := p
          rw [hg] at h
          have ht : t = tag := by simpa using h
          have hi := gta_in hT' h0 hg
          right
          rw [pubF_3 (by omega), (tg h0 hg).1, ht]
  have ck : ∀ {j t k : Int}, 0 ≤ j → j < n → gta j (((c0 : Int) + 1, 0, 0, 0) :: T) = some (t, k) → ckj L (((c0 : Int) + 1, 0, 0, 0) :: T) j = true := by
    intro j t k h0 h1 _
    unfold chk at hk
    have := List.all_eq_true.mp hk j.toNat (List.mem_range.mpr (by omega))
    rw [Int.toNat_of_nonneg h0] at this
    exact this
  refine ⟨fun a ha => ?_, fun a c e1 e2 k e3 e4 => ?_, fun a ha => ⟨fun c e1 e2 k e3 e4 => ?_, fun t e1 e2 e3 i i1 i2 => ?_⟩⟩
  · by_cases hb : o ≤ a ∧ a < o + n
    · rw [pubF_3 hb, pubF_o (Or.inl (by decide))]
      exact ⟨rfl, fun _ => by omega⟩
    · rcases Int.lt_or_le a o with q | q
      · by_cases e0 : a = 0
        · subst e0
          rw [old q (by omega)] at ha
          exact absurd hv.2.2.2.1.2 ha
        · rw [old q (by omega)] at ha ⊢
          rw [old q (by omega)]
          exact w1 a ha
      · exact absurd (far (by omega)) ha
  · by_cases hb : o ≤ a ∧ a < o + n
    · rw [pubF_3 hb] at e1
      obtain ⟨t, len, hg⟩ := gta_lt hT' (show 0 ≤ a - o by omega) (by rw [hN]; omega)
      have h1 := (tg (by omega) hg).1
      rw [show o + (a - o) = a by omega] at h1
      have ht : t = (c : Int) + 1 := by omega
      have hc := ck (by omega) (by omega) hg
      unfold ckj at hc
      rw [hg] at hc
      simp only at hc
      rw [if_pos (by omega), show (t - 1).toNat = c by omega] at hc
      unfold ckc at hc
      have hc := List.all_eq_true.mp hc k (List.mem_range.mpr e3)
      simp only [Bool.and_eq_true, Bool.or_eq_true, beq_iff_eq, decide_eq_true_eq] at hc
      obtain ⟨hc, -⟩ := hc
      rcases hc with hc | ⟨⟨⟨c1, c2⟩, c3⟩, c4⟩
      · exact absurd hc e4
      · have r1 := (rd (a - o) k).resolve_right (by omega)
        rw [show o + (a - o) = a by omega, c1] at r1
        have r1 : wr o L d a k = a + k_of c k := by rw [r1]; simp only [gtv]; rw [if_neg (by decide)]; omega
        have hj := gta_in hT' (Int.le_of_lt c2) c3
        have t1 := tg (Int.le_of_lt c2) c3
        rw [show o + (a - o + k_of c k) = a + k_of c k by omega] at t1
        refine ⟨r1, by rw [pubF_3 (by omega)]; exact t1.1, by rw [pubF_o (Or.inl (by decide))]; exact t1.2 (by omega), fun e5 i i1 i2 => ?_⟩
        rcases c4 with c4 | c4
        · exact absurd c4 e5
        · have c4 := List.all_eq_true.mp c4 i.toNat (List.mem_range.mpr (by omega))
          rw [Int.toNat_of_nonneg i1] at c4
          simp only [Bool.and_eq_true, beq_iff_eq, decide_eq_true_eq] at c4
          obtain ⟨⟨g1, g2⟩, g3⟩ := c4
          have r2 := (rd (a - o + k_of c k) i).resolve_right (by omega)
          rw [g1] at r2
          have hj2 := gta_in hT' (Int.le_of_lt g2) g3
          have t2 := tg (Int.le_of_lt g2) g3
          rw [show o + (a - o + k_eb c k + k_es c k * i) = a + k_eb c k + k_es c k * i by omega] at t2
          refine ⟨by rw [show a + k_of c k = o + (a - o + k_of c k) by omega, r2]; simp only [gtv]; rw [if_neg (by decide)]; omega, by rw [pubF_3 (by omega)]; exact t2.1, by rw [pubF_o (Or.inl (by decide))]; exact t2.2 (by omega)⟩
    · rcases Int.lt_or_le a o with q | q
      · by_cases e0 : a = 0
        · subst e0
          rw [old q (by omega), hv.2.2.2.1.2] at e1
          omega
        · rw [old q (by omega)] at e1
          obtain ⟨p1, p2, p3, p4⟩ := w2 a c e1 e2 k e3 e4
          have hx := isold (x := a + k_of c k) (by rw [p2]; exact k_tg0 c e2 k e3 e4)
          have hx0 : a + k_of c k ≠ 0 := fun e => by
            rw [e, hv.2.2.2.1.2] at p2
            exact k_tg0 c e2 k e3 e4 p2.symm
          refine ⟨by rw [wr_lt hL q]; exact p1, by rw [old hx (by omega)]; exact p2, by rw [old hx (by omega)]; exact p3, fun e5 i i1 i2 => ?_⟩
          obtain ⟨r1, r2, r3⟩ := p4 e5 i i1 i2
          have hy := isold (x := a + k_eb c k + k_es c k * i) (by rw [r2]; exact k_et0 c e2 k e3 e4 e5)
          have hy0 : a + k_eb c k + k_es c k * i ≠ 0 := fun e => by
            rw [e, hv.2.2.2.1.2] at r2
            exact k_et0 c e2 k e3 e4 e5 r2.symm
          exact ⟨by rw [wr_lt hL hx]; exact r1, by rw [old hy (by omega)]; exact r2, by rw [old hy (by omega)]; exact r3⟩
      · rw [far (by omega)] at e1
        omega
  · rw [pubF_o (Or.inl (by decide))] at e1
    by_cases hb : o ≤ a ∧ a < o + n
    · obtain ⟨t, len, hg⟩ := gta_lt hT' (show 0 ≤ a - o by omega) (by rw [hN]; omega)
      have h1 := (tg (by omega) hg).1
      rw [show o + (a - o) = a by omega] at h1
      have hc := ck (by omega) (by omega) hg
      unfold ckj at hc
      rw [hg] at hc
      simp only at hc
      rw [if_pos (by omega), show (t - 1).toNat = c by omega] at hc
      unfold ckc at hc
      have hc := List.all_eq_true.mp hc k (List.mem_range.mpr e3)
      simp only [Bool.and_eq_true, Bool.or_eq_true, Bool.not_eq_true'] at hc
      have hc := hc.2.resolve_left (by rw [e4]; exact fun h => by cases h)
      have r1 := (rd (a - o) k).resolve_right (by omega)
      rw [show o + (a - o) = a by omega] at r1
      rw [r1]
      exact rf hc
    · rcases Int.lt_or_le a o with q | q
      · rw [al_old hT (by omega) (by omega) (by omega)] at e1
        rw [wr_lt hL q]
        rcases (w3 a ha).1 c e1 e2 k e3 e4 with h | h
        · exact Or.inl h
        · have hx := isold (x := d a k) (by rw [h]; exact isRT_tg e4)
          exact Or.inr (by rw [old hx (by omega)]; exact h)
      · rw [al_far hT (by omega) (by omega), hv.2.2.1 a 1 (by omega)] at e1
        omega
  · rw [pubF_o (Or.inl (by decide))] at e1
    rw [pubF_o (Or.inl (by decide))] at i2
    by_cases hb : o ≤ a ∧ a < o + n
    · obtain ⟨t', len, hg⟩ := gta_lt hT' (show 0 ≤ a - o by omega) (by rw [hN]; omega)
      have h1 := tg (by omega) hg
      rw [show o + (a - o) = a by omega] at h1
      have ht : t' = (t : Int) := by omega
      subst ht
      have hne : a - o ≠ 0 := by
        intro e
        rw [e] at hg
        simp only [gta] at hg
        rw [if_pos trivial] at hg
        have hq : (c0 : Int) + 1 = (t : Int) := congrArg Prod.fst (Option.some.inj hg)
        omega
      have hc := ck (by omega) (by omega) hg
      unfold ckj at hc
      rw [hg] at hc
      simp only at hc
      rw [if_neg (by omega), if_pos (by omega)] at hc
      unfold cka at hc
      simp only [Bool.or_eq_true, Bool.not_eq_true'] at hc
      have hc := hc.resolve_left (by rw [e3]; exact fun h => by cases h)
      rw [h1.2 hne] at i2
      have hc := List.all_eq_true.mp hc i.toNat (List.mem_range.mpr (by omega))
      rw [Int.toNat_of_nonneg i1] at hc
      have r1 := (rd (a - o) i).resolve_right (by omega)
      rw [show o + (a - o) = a by omega] at r1
      rw [r1]
      exact rf hc
    · rcases Int.lt_or_le a o with q | q
      · rw [al_old hT (by omega) (by omega) (by omega)] at e1 i2
        rw [wr_lt hL q]
        rcases (w3 a ha).2 t e1 e2 e3 i i1 i2 with h | h
        · exact Or.inl h
        · have hx := isold (x := d a i) (by rw [h]; exact isRT_tg e3)
          exact Or.inr (by rw [old hx (by omega)]; exact h)
      · rw [al_far hT (by omega) (by omega), hv.2.2.1 a 1 (by omega)] at e1
        omega
