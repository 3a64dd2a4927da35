/-! LEVEL 3: conditions as both sides keep them: signs behind what they join, and levels of brackets -/
set_option maxRecDepth 100000
abbrev Lvl : Type := Bool × Bool × Bool × Bool
/-- X: one step over the values so far; tests from lo to hi -/
def sX (lo hi : Int) (τ : Int → Bool) (v : Int) (s : Option (List Bool)) : Option (List Bool) := match s with
  | none => none
  | some s => if v = 4002 then (match s with | x :: r => some ((!x) :: r) | [] => none) else if v = 4000 then (match s with | y :: x :: r => some ((x && y) :: r) | _ => none) else if v = 4001 then (match s with | y :: x :: r => some ((x || y) :: r) | _ => none) else if lo ≤ v ∧ v < hi then some (τ v :: s) else none
def ev (lo hi : Int) (τ : Int → Bool) (R : Int → Int) : Nat → Option (List Bool)
  | 0 => some []
  | n + 1 => sX lo hi τ (R n) (ev lo hi τ R n)
/-- M: one step over the levels, and the first test that fails -/
def sM (lo hi : Int) (τ : Int → Bool) (v : Int) (s : Option (List Lvl × Int)) : Option (List Lvl × Int) :=
  match s with
  | some ((a, b, c, e) :: l, f) =>
    if 0 ≤ v then (if lo ≤ v ∧ v < hi then some ((a, (b && (τ v != c)), false, e) :: l, if f < 0 ∧ τ v = (e != c) then v else f) else none)
    else if v = -1 then some ((a, b, (!c), e) :: l, f)
    else if v = -2 then (if l.length ≤ 29 then some ((false, true, false, (e != c)) :: (a, b, c, e) :: l, f) else none)
    else if v = -3 then (match l with | (a', b', c', e') :: l' => some ((a', (b' && ((a || b) != c')), false, e') :: l', f) | [] => none)
    else if v = -5 then some (((a || b), true, c, e) :: l, f)
    else if v = -4 then some ((a, b, c, e) :: l, f)
    else none
  | _ => none
def evM (lo hi : Int) (τ : Int → Bool) (R : Int → Int) : Nat → Option (List Lvl × Int)
  | 0 => some ([(false, true, false, false)], -1)
  | n + 1 => sM lo hi τ (R n) (evM lo hi τ R n)
theorem ev_cg {lo hi : Int} {τ : Int → Bool} {R R' : Int → Int} : ∀ {n : Nat}, (∀ k : Int, 0 ≤ k → k < n → R' k = R k) → ev lo hi τ R' n = ev lo hi τ R n := by
  intro n
  induction n with
  | zero => intro _; rfl
  | succ n ih =>
    intro h
    simp only [ev]
    rw [ih (fun k k0 k1 => h k k0 (by omega)), h n (by omega) (by omega)]
theorem evM_cg {lo hi : Int} {τ : Int → Bool} {R R' : Int → Int} : ∀ {n : Nat}, (∀ k : Int, 0 ≤ k → k < n → R' k = R k) → evM lo hi τ R' n = evM lo hi τ R n := by
  intro n
  induction n with
  | zero => intro _; rfl
  | succ n ih =>
    intro h
    simp only [evM]
    rw [ih (fun k k0 k1 => h k k0 (by omega)), h n (by omega) (by omega)]
theorem sX_up {lo hi hi' : Int} {τ : Int → Bool} {v : Int} {V V' : List Bool} (hh : hi ≤ hi') (h : sX lo hi τ v (some V) = some V') : sX lo hi' τ v (some V) = some V' := by
  simp only [sX] at h ⊢
  by_cases h1 : v = 4002
  · rw [if_pos h1] at h ⊢; exact h
  · rw [if_neg h1] at h ⊢
    by_cases h2 : v = 4000
    · rw [if_pos h2] at h ⊢; exact h
    · rw [if_neg h2] at h ⊢
      by_cases h3 : v = 4001
      · rw [if_pos h3] at h ⊢; exact h
      · rw [if_neg h3] at h ⊢
        by_cases h4 : lo ≤ v ∧ v < hi
        · rw [if_pos h4] at h
          rw [if_pos (by omega)]; exact h
        · rw [if_neg h4] at h; cases h
theorem ev_up {lo hi hi' : Int} {τ : Int → Bool} {R : Int → Int} (hh : hi ≤ hi') : ∀ {n : Nat} {V : List Bool}, ev lo hi τ R n = some V → ev lo hi' τ R n = some V := by
  intro n
  induction n with
  | zero => intro V h; exact h
  | succ n ih =>
    intro V h
    simp only [ev] at h ⊢
    cases e : ev lo hi τ R n with
    | none => rw [e] at h; cases h
    | some V0 =>
      rw [e] at h
      rw [ih e]
      exact sX_up hh h
theorem evM_up {lo hi hi' : Int} {τ : Int → Bool} {R : Int → Int} (hh : hi ≤ hi') : ∀ {n : Nat} {V : List Lvl × Int}, evM lo hi τ R n = some V → evM lo hi' τ R n = some V := by
  intro n
  induction n with
  | zero => intro V h; exact h
  | succ n ih =>
    intro V h
    simp only [evM] at h ⊢
    cases e : evM lo hi τ R n with
    | none => rw [e] at h; cases h
    | some V0 =>
      rw [e] at h
      rw [ih e]
      obtain ⟨l0, g⟩ := V0
      cases l0 with
      | nil => cases h
      | cons q l =>
        obtain ⟨a, b, c, d⟩ := q
        simp only [sM] at h ⊢
        by_cases h1 : 0 ≤ R n
        · rw [if_pos h1] at h ⊢
          by_cases h4 : lo ≤ R n ∧ R n < hi
          · rw [if_pos h4] at h
            rw [if_pos (by omega)]; exact h
          · rw [if_neg h4] at h; cases h
        · rw [if_neg h1] at h ⊢; exact h
/-- X's stack, the top first -/
def rdS (R : Int → Int) : Nat → List Int
  | 0 => []
  | n + 1 => R n :: rdS R n
theorem rdS_cg {R R' : Int → Int} : ∀ {n : Nat}, (∀ k : Int, 0 ≤ k → k < n → R' k = R k) → rdS R' n = rdS R n := by
  intro n
  induction n with
  | zero => intro _; rfl
  | succ n ih =>
    intro h
    simp only [rdS]
    rw [ih (fun k k0 k1 => h k k0 (by omega)), h n (by omega) (by omega)]
theorem rdS_len {R : Int → Int} : ∀ n : Nat, (rdS R n).length = n := by
  intro n
  induction n with
  | zero => rfl
  | succ n ih => simp only [rdS, List.length_cons, ih]
/-- what waits: of each level, innermost first, how many TURNs, and which of AND, OR below them -/
def sgm (s : Nat) : List Int := if s = 0 then [] else if s = 1 then [4000] else if s = 2 then [4001] else [4000, 4001]
def flat : List (Nat × Nat) → List Int
  | [] => []
  | [(k, s)] => List.replicate k 4002 ++ sgm s
  | (k, s) :: D => List.replicate k 4002 ++ (sgm s ++ (-1) :: flat D)
theorem flat_cons {k s : Nat} {q : Nat × Nat} {D : List (Nat × Nat)} : flat ((k, s) :: q :: D) = List.replicate k 4002 ++ (sgm s ++ (-1) :: flat (q :: D)) := rfl
theorem flat_one {k s : Nat} : flat [(k, s)] = List.replicate k 4002 ++ sgm s := rfl
theorem flat_S {k s : Nat} {D : List (Nat × Nat)} : flat ((k + 1, s) :: D) = 4002 :: flat ((k, s) :: D) := by
  cases D with
  | nil => simp only [flat_one, List.replicate_succ, List.cons_append]
  | cons q D => simp only [flat_cons, List.replicate_succ, List.cons_append]
/-- what follows a level's own -/
def fl0 : List (Nat × Nat) → List Int
  | [] => []
  | D => (-1) :: flat D
theorem flat_0 {s : Nat} {D : List (Nat × Nat)} : flat ((0, s) :: D) = sgm s ++ fl0 D := by
  cases D with
  | nil => simp [flat_one, fl0]
  | cons q D => simp [flat_cons, fl0]
def odd (k : Nat) : Bool := k % 2 == 1
theorem odd_S {k : Nat} : odd (k + 1) = !odd k := by
  unfold odd
  rcases Nat.mod_two_eq_zero_or_one k with h | h
  · rw [h, show (k + 1) % 2 = 1 by omega]; rfl
  · rw [h, show (k + 1) % 2 = 0 by omega]; rfl
def par : List (Nat × Nat) → Bool
  | [] => false
  | (k, _) :: D => odd k != par D
theorem par_S {k s : Nat} {D : List (Nat × Nat)} : par ((k + 1, s) :: D) = !par ((k, s) :: D) := by
  simp only [par, odd_S]
  cases odd k <;> cases par D <;> rfl
/-- values and levels, an operand is awaited -/
def Sem : List (Nat × Nat) → List Bool → List Lvl → Prop
  | [], V, Lv => V = [] ∧ Lv = []
  | (k, s) :: D, V, Lv => ∃ x y W L', Lv = (x, y, odd k, par D) :: L' ∧ Sem D W L' ∧ (if s = 0 then V = W ∧ x = false ∧ y = true else if s = 1 then V = y :: W ∧ x = false else if s = 2 then V = x :: W ∧ y = true else V = y :: x :: W)
theorem Sem.len : ∀ {D : List (Nat × Nat)} {V : List Bool} {Lv : List Lvl}, Sem D V Lv → Lv.length = D.length := by
  intro D
  induction D with
  | nil => intro V Lv h; rw [h.2]; rfl
  | cons q D ih =>
    intro V Lv h
    obtain ⟨k, s⟩ := q
    obtain ⟨x, y, W, L', rfl, h2, -⟩ := h
    simp only [List.length_cons, ih h2]
/-- an operand is there -/
def SemC (D : List (Nat × Nat)) (V : List Bool) (Lv : List Lvl) : Prop := ∃ s D', D = (0, s) :: D' ∧ ∃ z W x y L', V = z :: W ∧ Lv = (x, (y && z), false, par D') :: L' ∧ Sem ((0, s) :: D') W ((x, y, false, par D') :: L')
theorem Sem.not {lo hi : Int} {τ : Int → Bool} {k s : Nat} {D : List (Nat × Nat)} {V : List Bool} {Lv : List Lvl} {f : Int} (h : Sem ((k, s) :: D) V Lv) : ∃ Lv', sM lo hi τ (-1) (some (Lv, f)) = some (Lv', f) ∧ Sem ((k + 1, s) :: D) V Lv' := by
  obtain ⟨x, y, W, L', rfl, h2, h3⟩ := h
  refine ⟨_, rfl, x, y, W, L', ?_, h2, h3⟩
  rw [odd_S]
theorem Sem.opn {lo hi : Int} {τ : Int → Bool} {k s : Nat} {D : List (Nat × Nat)} {V : List Bool} {Lv : List Lvl} {f : Int} (h : Sem ((k, s) :: D) V Lv) (hl : D.length ≤ 29) : ∃ Lv', sM lo hi τ (-2) (some (Lv, f)) = some (Lv', f) ∧ Sem ((0, 0) :: (k, s) :: D) V Lv' := by
  have h0 := h
  obtain ⟨x, y, W, L', rfl, h2, h3⟩ := h
  have h2l := h2.len
  refine ⟨(false, true, false, (par D != odd k)) :: (x, y, odd k, par D) :: L', ?_, false, true, V, (x, y, odd k, par D) :: L', ?_, h0, ?_⟩
  · simp only [sM]
    rw [if_neg (by decide), if_neg (by decide), if_pos (by decide), if_pos (by omega)]
  · have : (par D != odd k) = par ((k, s) :: D) := by simp only [par]; cases odd k <;> cases par D <;> rfl
    rw [this]
    rfl
  · rw [if_pos rfl]
    exact ⟨rfl, rfl, rfl⟩
theorem sX_turn {lo hi : Int} {τ : Int → Bool} {z : Bool} {W : List Bool} : sX lo hi τ 4002 (some (z :: W)) = some ((!z) :: W) := rfl
theorem Sem.opd {k s : Nat} {D : List (Nat × Nat)} {W : List Bool} {x y c e v : Bool} {l : List Lvl} (h : Sem ((k, s) :: D) W ((x, y, c, e) :: l)) : SemC ((0, s) :: D) ((v != odd k) :: W) ((x, (y && (v != c)), false, e) :: l) := by
  obtain ⟨x', y', W', L', h1, h2, h3⟩ := h
  cases h1
  exact ⟨s, D, rfl, v != odd k, W, x, y, l, rfl, rfl, x, y, W', l, rfl, h2, h3⟩
theorem SemC.and {s : Nat} {D : List (Nat × Nat)} {V : List Bool} {Lv : List Lvl} (h : SemC ((0, s) :: D) V Lv) (hs : s = 0 ∨ s = 2) : Sem ((0, s + 1) :: D) V Lv := by
  obtain ⟨s', D', e, z, W, x, y, L', rfl, rfl, h⟩ := h
  cases e
  obtain ⟨x', y', W', L'', h1, h2, h3⟩ := h
  cases h1
  rcases hs with rfl | rfl
  · rw [if_pos rfl] at h3
    obtain ⟨rfl, rfl, rfl⟩ := h3
    refine ⟨false, (true && z), W, L', rfl, h2, ?_⟩
    rw [if_neg (by decide), if_pos (by decide)]
    exact ⟨rfl, rfl⟩
  · rw [if_neg (by decide), if_neg (by decide), if_pos rfl] at h3
    obtain ⟨rfl, rfl⟩ := h3
    refine ⟨x, (true && z), W', L', rfl, h2, ?_⟩
    rw [if_neg (by decide), if_neg (by decide), if_neg (by decide)]
    rfl
/-- an AND that waited is done -/
theorem SemC.pand {lo hi : Int} {τ : Int → Bool} {s : Nat} {D : List (Nat × Nat)} {V : List Bool} {Lv : List Lvl} (h : SemC ((0, s) :: D) V Lv) (hs : s = 1 ∨ s = 3) : ∃ V', sX lo hi τ 4000 (some V) = some V' ∧ SemC ((0, s - 1) :: D) V' Lv := by
  obtain ⟨s', D', e, z, W, x, y, L', rfl, rfl, h⟩ := h
  cases e
  obtain ⟨x', y', W', L'', h1, h2, h3⟩ := h
  cases h1
  rcases hs with rfl | rfl
  · rw [if_neg (by decide), if_pos rfl] at h3
    obtain ⟨rfl, rfl⟩ := h3
    refine ⟨(y && z) :: W', rfl, 0, D, rfl, (y && z), W', false, true, L', rfl, rfl, false, true, W', L', rfl, h2, ?_⟩
    rw [if_pos rfl]
    exact ⟨rfl, rfl, rfl⟩
  · rw [if_neg (by decide), if_neg (by decide), if_neg (by decide)] at h3
    subst h3
    refine ⟨(y && z) :: x :: W', rfl, 2, D, rfl, (y && z), x :: W', x, true, L', rfl, rfl, x, true, W', L', rfl, h2, ?_⟩
    rw [if_neg (by decide), if_neg (by decide), if_pos rfl]
    exact ⟨rfl, rfl⟩
/-- an OR that waited is done: what M will do at its next OR, or in the end -/
theorem SemC.por {lo hi : Int} {τ : Int → Bool} {D : List (Nat × Nat)} {V : List Bool} {x y c e : Bool} {L' : List Lvl} (h : SemC ((0, 2) :: D) V ((x, y, c, e) :: L')) : ∃ V', sX lo hi τ 4001 (some V) = some V' ∧ SemC ((0, 0) :: D) V' ((false, (x || y), c, e) :: L') := by
  obtain ⟨s', D', e1, z, W, x1, y1, L1, rfl, e2, h⟩ := h
  cases e1
  cases e2
  obtain ⟨x', y', W', L'', h1, h2, h3⟩ := h
  cases h1
  rw [if_neg (by decide), if_neg (by decide), if_pos rfl] at h3
  obtain ⟨rfl, rfl⟩ := h3
  refine ⟨(x || z) :: W', rfl, 0, D, rfl, (x || z), W', false, true, L', rfl, ?_, false, true, W', L', rfl, h2, ?_⟩
  · cases z <;> cases x <;> rfl
  · rw [if_pos rfl]
    exact ⟨rfl, rfl, rfl⟩
/-- nothing waits at this level: its value is there -/
theorem SemC.val {D : List (Nat × Nat)} {V : List Bool} {x y c e : Bool} {L' : List Lvl} (h : SemC ((0, 0) :: D) V ((x, y, c, e) :: L')) : ∃ W, V = y :: W ∧ x = false ∧ c = false ∧ e = par D ∧ Sem D W L' := by
  obtain ⟨s', D', e1, z, W, x1, y1, L1, rfl, e2, h⟩ := h
  cases e1
  cases e2
  obtain ⟨x', y', W', L'', h1, h2, h3⟩ := h
  cases h1
  rw [if_pos rfl] at h3
  obtain ⟨rfl, rfl, rfl⟩ := h3
  refine ⟨W, ?_, rfl, rfl, rfl, h2⟩
  cases z <;> rfl
