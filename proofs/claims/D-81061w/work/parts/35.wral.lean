/-! lists of writes and of allocations, by places behind the first cell o -/
def adr (o j : Int) : Int := if j = 0 then o else o + j
def wr (o : Int) : List (Int × Int × Int × Int) → Dt → Dt
  | [], d => d
  | (j, k, v, r) :: L, d => wr o L (if k = -1 then mlD d (adr o j) v else st d (adr o j) k (if r = 0 then v else adr o v))
theorem adr_eq (o j : Int) : adr o j = o + j := by
  unfold adr
  split <;> omega
theorem wr_app (o : Int) : ∀ (L1 L2 : List (Int × Int × Int × Int)) (d : Dt), wr o (L1 ++ L2) d = wr o L2 (wr o L1 d)
  | [], _, _ => rfl
  | (_, _, _, _) :: L1, L2, _ => wr_app o L1 L2 _
def shf (c : Int) : List (Int × Int × Int × Int) → List (Int × Int × Int × Int)
  | [] => []
  | (j, k, v, r) :: L => (c + j, k, (if k = -1 then v else if r = 0 then v else c + v), r) :: shf c L
theorem wr_shf (o c : Int) : ∀ (L : List (Int × Int × Int × Int)) (d : Dt), wr (o + c) L d = wr o (shf c L) d
  | [], _ => rfl
  | (j, k, v, r) :: L, d => by
    have e : ∀ x, adr (o + c) x = adr o (c + x) := fun x => by rw [adr_eq, adr_eq]; omega
    simp only [wr, shf]
    rw [wr_shf o c L]
    congr 1
    by_cases h : k = -1
    · rw [if_pos h, if_pos h, if_pos h, e]
    · rw [if_neg h, if_neg h, if_neg h, e]
      congr 1
      by_cases h2 : r = 0
      · rw [if_pos h2, if_pos h2, if_pos h2]
      · rw [if_neg h2, if_neg h2, if_neg h2, e]
/-- below the first cell nothing is written -/
def wrOk (L : List (Int × Int × Int × Int)) : Bool := L.all fun e => decide (0 ≤ e.1)
theorem wr_lt {o x y : Int} : ∀ {L : List (Int × Int × Int × Int)} {d : Dt}, wrOk L = true → x < o → wr o L d x y = d x y
  | [], _, _, _ => rfl
  | (j, k, v, r) :: L, d, h, hx => by
    simp only [wrOk, List.all_cons, Bool.and_eq_true, decide_eq_true_eq] at h
    simp only [wr]
    rw [wr_lt (L := L) (by simp only [wrOk]; exact h.2) hx]
    have e : x ≠ adr o j := by rw [adr_eq]; omega
    split
    · exact mlD_ne e
    · exact st_na e
/-- what stands at a place: the last write there -/
def gtw (j k : Int) : List (Int × Int × Int × Int) → Option (Int × Int) → Option (Int × Int)
  | [], q => q
  | (j', k', v, r) :: L, q => gtw j k L (if j' = j then (if k' = -1 then (if 0 ≤ k ∧ k < v then some (j' + 1 + k, 1) else q) else if k' = k then some (v, r) else q) else q)
def gtv (o : Int) (z : Int) : Option (Int × Int) → Int
  | none => z
  | some (v, r) => if r = 0 then v else o + v
theorem wr_get {o j k z : Int} : ∀ {L : List (Int × Int × Int × Int)} {d : Dt} {q : Option (Int × Int)}, d (o + j) k = gtv o z q → wr o L d (o + j) k = gtv o z (gtw j k L q)
  | [], _, _, h => h
  | (j', k', v, r) :: L, d, q, h => by
    simp only [wr, gtw]
    refine wr_get (L := L) ?_
    rw [adr_eq]
    by_cases h1 : j' = j
    · subst h1
      rw [if_pos rfl]
      by_cases h2 : k' = -1
      · rw [if_pos h2, if_pos h2]
        by_cases h3 : 0 ≤ k ∧ k < v
        · rw [if_pos h3, mlD_in h3]
          show o + j' + 1 + k = if (1 : Int) = 0 then j' + 1 + k else o + (j' + 1 + k)
          rw [if_neg (by decide)]
          omega
        · rw [if_neg h3]
          unfold mlD
          rw [if_neg (fun q => h3 q.2)]
          exact h
      · rw [if_neg h2, if_neg h2]
        by_cases h3 : k' = k
        · subst h3
          rw [if_pos rfl, st_eq]
          show _ = if r = 0 then v else o + v
          split
          · rfl
          · exact adr_eq o v
        · rw [if_neg h3, st_nk (fun e => h3 e.symm)]
          exact h
    · rw [if_neg h1]
      split
      · rw [mlD_ne (by omega)]; exact h
      · rw [st_na (by omega)]; exact h
def al : List (Int × Int × Int × Int) → Dt → Dt
  | [], m => m
  | (t, n, t2, n2) :: L, m => al L (if t2 = 0 then aln m t n else mlt m t n t2 n2)
theorem al_app : ∀ (L1 L2 : List (Int × Int × Int × Int)) (m : Dt), al (L1 ++ L2) m = al L2 (al L1 m)
  | [], _, _ => rfl
  | (_, _, _, _) :: L1, L2, _ => al_app L1 L2 _
def alN : List (Int × Int × Int × Int) → Int
  | [] => 0
  | (_, n, t2, _) :: L => (if t2 = 0 then 1 else n + 1) + alN L
def alOk (L : List (Int × Int × Int × Int)) : Bool := L.all fun e => decide (0 ≤ e.2.1)
theorem al_nx : ∀ {L : List (Int × Int × Int × Int)} {m : Dt}, alOk L = true → 1 ≤ m 0 0 → al L m 0 0 = m 0 0 + alN L
  | [], m, _, _ => by simp only [al, alN]; omega
  | (t, n, t2, n2) :: L, m, h, hm => by
    simp only [alOk, List.all_cons, Bool.and_eq_true, decide_eq_true_eq] at h
    simp only [al, alN]
    by_cases h2 : t2 = 0
    · rw [if_pos h2, if_pos h2, al_nx (L := L) (by simp only [alOk]; exact h.2) (by rw [aln_next hm]; omega), aln_next hm]
      omega
    · rw [if_neg h2, if_neg h2, al_nx (L := L) (by simp only [alOk]; exact h.2) (by rw [mlt_next hm]; omega), mlt_next hm]
      omega
theorem al_old : ∀ {L : List (Int × Int × Int × Int)} {m : Dt} {x j : Int}, alOk L = true → 1 ≤ m 0 0 → x < m 0 0 → ¬ (x = 0 ∧ j = 0) → al L m x j = m x j
  | [], _, _, _, _, _, _, _ => rfl
  | (t, n, t2, n2) :: L, m, x, j, h, hm, hx, h0 => by
    simp only [alOk, List.all_cons, Bool.and_eq_true, decide_eq_true_eq] at h
    simp only [al]
    by_cases h2 : t2 = 0
    · rw [if_pos h2, al_old (L := L) (by simp only [alOk]; exact h.2) (by rw [aln_next hm]; omega) (by rw [aln_next hm]; omega) h0, aln_old (by omega) h0]
    · rw [if_neg h2, al_old (L := L) (by simp only [alOk]; exact h.2) (by rw [mlt_next hm]; omega) (by rw [mlt_next hm]; omega) h0, mlt_old (Or.inl hx) h.1 h0]
theorem al_ob {L : List (Int × Int × Int × Int)} {m : Dt} {o : Int} {c : Nat} (hL : alOk L = true) (h : OB m o c) (ho : o < m 0 0) : OB (al L m) o c := ⟨h.1, by rw [al_old hL (by have := h.1; omega) ho (by have := h.1; omega)]; exact h.2⟩
theorem al_ar {L : List (Int × Int × Int × Int)} {m : Dt} {o k : Int} {c : Nat} (hL : alOk L = true) (h : AR m o c k) (ho : o < m 0 0) : AR (al L m) o c k := ⟨h.1, by rw [al_old hL (by have := h.1; omega) ho (by have := h.1; omega)]; exact h.2.1, by rw [al_old hL (by have := h.1; omega) ho (by have := h.1; omega)]; exact h.2.2⟩
/-- the tag and the length at a place behind the first cell -/
def gta (j : Int) : List (Int × Int × Int × Int) → Option (Int × Int)
  | [] => none
  | (t, n, t2, n2) :: L => if j = 0 then some (t, n) else if t2 = 0 then gta (j - 1) L else if j ≤ n then some (t2, n2) else gta (j - 1 - n) L
theorem al_get : ∀ {L : List (Int × Int × Int × Int)} {m : Dt} {j t n : Int}, alOk L = true → 1 ≤ m 0 0 → 0 ≤ j → gta j L = some (t, n) → al L m (m 0 0 + j) 1 = t ∧ al L m (m 0 0 + j) 2 = n ∧ al L m (m 0 0 + j) 3 = 0
  | [], _, _, _, _, _, _, _, h => by cases h
  | (t, n, t2, n2) :: L, m, j, t', n', h, hm, hj, hg => by
    simp only [alOk, List.all_cons, Bool.and_eq_true, decide_eq_true_eq] at h
    have hL : alOk L = true := by simp only [alOk]; exact h.2
    simp only [gta] at hg
    simp only [al]
    by_cases h2 : t2 = 0
    · rw [if_pos h2] at hg ⊢
      have hn := aln_next (t := t) (n := n) hm
      by_cases h3 : j = 0
      · rw [if_pos h3] at hg
        cases hg
        subst h3
        have e : m 0 0 + 0 = m 0 0 := by omega
        rw [e]
        refine ⟨?_, ?_, ?_⟩
        · rw [al_old hL (by omega) (by omega) (by omega)]; exact aln_1
        · rw [al_old hL (by omega) (by omega) (by omega)]; exact aln_2
        · rw [al_old hL (by omega) (by omega) (by omega)]; exact aln_3
      · rw [if_neg h3] at hg
        have := al_get (L := L) (m := aln m t n) (j := j - 1) hL (by omega) (by omega) hg
        rw [hn, show m 0 0 + 1 + (j - 1) = m 0 0 + j by omega] at this
        exact this
    · rw [if_neg h2] at hg ⊢
      have hn := mlt_next (t := t) (n := n) (t2 := t2) (n2 := n2) hm
      by_cases h3 : j = 0
      · rw [if_pos h3] at hg
        cases hg
        subst h3
        have e : m 0 0 + 0 = m 0 0 := by omega
        have hn0 := h.1
        rw [e]
        refine ⟨?_, ?_, ?_⟩
        · rw [al_old hL (by omega) (by omega) (by omega)]; exact mlt_a1
        · rw [al_old hL (by omega) (by omega) (by omega)]; exact mlt_a2
        · rw [al_old hL (by omega) (by omega) (by omega)]; unfold mlt; rw [if_pos rfl, if_neg (by decide), if_neg (by decide)]
      · rw [if_neg h3] at hg
        have hn0 := h.1
        by_cases h4 : j ≤ n
        · rw [if_pos h4] at hg
          cases hg
          have hin : m 0 0 < m 0 0 + j ∧ m 0 0 + j ≤ m 0 0 + n := by omega
          refine ⟨?_, ?_, ?_⟩
          · rw [al_old hL (by omega) (by omega) (by omega)]; exact mlt_b1 hin
          · rw [al_old hL (by omega) (by omega) (by omega)]; exact mlt_b2 hin
          · rw [al_old hL (by omega) (by omega) (by omega)]; unfold mlt; rw [if_neg (by omega), if_pos hin, if_neg (by decide), if_neg (by decide)]
        · rw [if_neg h4] at hg
          have := al_get (L := L) (m := mlt m t n t2 n2) (j := j - 1 - n) hL (by omega) (by omega) hg
          rw [hn, show m 0 0 + n + 1 + (j - 1 - n) = m 0 0 + j by omega] at this
          exact this
theorem al_AR {L : List (Int × Int × Int × Int)} {m : Dt} {j n a : Int} {t : Nat} (hL : alOk L = true) (hm : 1 ≤ m 0 0) (hj : 0 ≤ j) (hg : gta j L = some ((t : Int), n)) (ha : m 0 0 + j = a) : AR (al L m) a t n := by
  subst ha
  obtain ⟨h1, h2, -⟩ := al_get hL hm hj hg
  exact ⟨by omega, h1, h2⟩
