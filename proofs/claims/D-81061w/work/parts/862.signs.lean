/-! LEVEL 3: signs of a text -/
set_option maxRecDepth 100000
/-- from k on, as long as p holds, at most to n -/
def run (p : Int → Bool) (n : Int) : Nat → Int → Int
  | 0, k => k
  | f + 1, k => if k < n ∧ p k = true then run p n f (k + 1) else k
def ru (p : Int → Bool) (n k : Int) : Int := run p n (n - k).toNat k
theorem ru_go {p : Int → Bool} {n k : Int} (h : k < n) (hp : p k = true) : ru p n k = ru p n (k + 1) := by
  unfold ru
  rw [show (n - k).toNat = (n - (k + 1)).toNat + 1 by omega]
  simp only [run]
  rw [if_pos ⟨h, hp⟩]
theorem ru_no {p : Int → Bool} {n k : Int} (h : ¬ (k < n ∧ p k = true)) : ru p n k = k := by
  unfold ru
  generalize (n - k).toNat = f
  cases f with
  | zero => rfl
  | succ f => simp only [run]; rw [if_neg h]
theorem run_in {p : Int → Bool} {n : Int} : ∀ (f : Nat) (k : Int), k ≤ n → k ≤ run p n f k ∧ run p n f k ≤ n ∧ ∀ j, k ≤ j → j < run p n f k → p j = true := by
  intro f
  induction f with
  | zero => intro k h; exact ⟨Int.le_refl _, h, fun j a b => by simp only [run] at b; omega⟩
  | succ f ih =>
    intro k h
    simp only [run]
    by_cases q : k < n ∧ p k = true
    · rw [if_pos q]
      obtain ⟨a, b, c⟩ := ih (k + 1) (by omega)
      refine ⟨by omega, b, fun j j0 j1 => ?_⟩
      by_cases e : j = k
      · subst e; exact q.2
      · exact c j (by omega) j1
    · rw [if_neg q]; exact ⟨Int.le_refl _, h, fun j a b => by omega⟩
theorem ru_in {p : Int → Bool} {n k : Int} (h : k ≤ n) : k ≤ ru p n k ∧ ru p n k ≤ n ∧ ∀ j, k ≤ j → j < ru p n k → p j = true := run_in _ _ h
theorem run_end {p : Int → Bool} {n : Int} : ∀ (f : Nat) (k : Int), (n - k).toNat ≤ f → ¬ (run p n f k < n ∧ p (run p n f k) = true) := by
  intro f
  induction f with
  | zero => intro k h q; simp only [run] at q; omega
  | succ f ih =>
    intro k h
    simp only [run]
    by_cases q : k < n ∧ p k = true
    · rw [if_pos q]; exact ih (k + 1) (by omega)
    · rw [if_neg q]; exact q
theorem ru_end {p : Int → Bool} {n k : Int} : ¬ (ru p n k < n ∧ p (ru p n k) = true) := run_end _ _ (Nat.le_refl _)
def isSp (t : Int → Int) (k : Int) : Bool := decide (t k = 32 ∨ t k = 10)
def isLe (t : Int → Int) (k : Int) : Bool := decide (65 ≤ t k ∧ t k ≤ 90)
def isDi (t : Int → Int) (k : Int) : Bool := decide (48 ≤ t k ∧ t k ≤ 57)
theorem isLetter_X {d : Dt} {k : Int} (h : 0 ≤ k) (hn : d 10 4 ≤ 4000) : wp (fX2_isLetter d k) (fun r => r = if k < d 10 4 ∧ isLe (d 2) k = true then 1 else 0) := by
  unfold fX2_isLetter isLe
  by_cases q : d 10 4 ≤ k
  · rw [if_pos q, wp_some, if_neg (by omega)]
  · rw [if_neg q, wp_ck]
    refine ⟨by omega, ?_⟩
    by_cases r : 65 ≤ d 2 k ∧ d 2 k ≤ 90
    · rw [if_neg (within_0.mpr r), wp_some, if_pos ⟨by omega, decide_eq_true r⟩]
    · rw [if_pos (within_1.mpr r), wp_some, if_neg (fun z => r (of_decide_eq_true z.2))]
theorem isDigit_X {d : Dt} {k : Int} (h : 0 ≤ k) (hn : d 10 4 ≤ 4000) : wp (fX2_isDigit d k) (fun r => r = if k < d 10 4 ∧ isDi (d 2) k = true then 1 else 0) := by
  unfold fX2_isDigit isDi
  by_cases q : d 10 4 ≤ k
  · rw [if_pos q, wp_some, if_neg (by omega)]
  · rw [if_neg q, wp_ck]
    refine ⟨by omega, ?_⟩
    by_cases r : 48 ≤ d 2 k ∧ d 2 k ≤ 57
    · rw [if_neg (within_0.mpr r), wp_some, if_pos ⟨by omega, decide_eq_true r⟩]
    · rw [if_pos (within_1.mpr r), wp_some, if_neg (fun z => r (of_decide_eq_true z.2))]
/-- the text from a to e is the word s -/
def Mt (t : Int → Int) (a e s : Int) : Prop := e - a = sLen s ∧ ∀ k, 0 ≤ k → k < sLen s → t (a + k) = sAt s k
theorem isWord_X {d : Dt} {s : Int} (h : 0 ≤ d 10 5 ∧ d 10 5 ≤ d 10 6 ∧ d 10 6 ≤ 4000) : wp (fX2_isWord d s) (fun r => (r = 1 ∧ Mt (d 2) (d 10 5) (d 10 6) s) ∨ (r = 0 ∧ ¬ Mt (d 2) (d 10 5) (d 10 6) s)) := by
  unfold fX2_isWord fX2_isWord_23
  rw [w32_of (show (-2147483648 : Int) ≤ d 10 6 - d 10 5 by omega) (show d 10 6 - d 10 5 ≤ (2147483647 : Int) by omega)]
  by_cases q : d 10 6 - d 10 5 = sLen s
  · rw [if_pos q, wp_lv]
    refine wp_up1 (fun v => ∀ k, 0 ≤ k → k < v - d 10 5 → d 2 (d 10 5 + k) = sAt s k) (d 10 5) (d 10 6) h.2.1 (fun v v0 v1 hI => ?_) (fun hI => ?_) (fun k k0 k1 => by omega)
    · unfold fX2_isWord_23f
      dsimp only
      rw [if_neg (by omega), wp_ck, wp_lv, wp_ck, w32_of (show (-2147483648 : Int) ≤ v - d 10 5 by omega) (show v - d 10 5 ≤ (2147483647 : Int) by omega)]
      refine ⟨by omega, by omega, ?_⟩
      by_cases r : d 2 v = sAt s (v - d 10 5)
      · rw [if_pos r, wp_lv, wp_some, w32_of (show (-2147483648 : Int) ≤ v + 1 by omega) (show v + 1 ≤ (2147483647 : Int) by omega)]
        refine Or.inl ⟨rfl, fun k k0 k1 => ?_⟩
        by_cases z : k = v - d 10 5
        · subst z; rw [show d 10 5 + (v - d 10 5) = v by omega]; exact r
        · exact hI k k0 (by omega)
      · rw [if_neg r, wp_up, wp_some]
        refine Or.inr ⟨_, rfl, Or.inr ⟨rfl, fun m => r ?_⟩⟩
        have := m.2 (v - d 10 5) (by omega) (by omega)
        rw [show d 10 5 + (v - d 10 5) = v by omega] at this
        exact this
    · unfold fX2_isWord_23f
      dsimp only
      rw [if_pos (Int.le_refl _), wp_up, wp_some]
      exact ⟨_, rfl, Or.inl ⟨rfl, q, fun k k0 k1 => hI k k0 (by omega)⟩⟩
  · rw [if_neg q, wp_some]
    exact Or.inr ⟨rfl, fun m => q m.1⟩
theorem isWord_M {d : Dt} {s : Int} (h0 : 0 ≤ d 1545 29 ∧ d 1545 29 < 4002) (h : d 1565 (d 1545 29) = 1 → 0 ≤ d 1566 (d 1545 29) ∧ d 1566 (d 1545 29) ≤ d 1567 (d 1545 29) ∧ d 1567 (d 1545 29) ≤ 4000) : wp (fX11_isWord d s) (fun r => (r = 1 ∧ d 1565 (d 1545 29) = 1 ∧ Mt (d 1546) (d 1566 (d 1545 29)) (d 1567 (d 1545 29)) s) ∨ (r = 0 ∧ ¬ (d 1565 (d 1545 29) = 1 ∧ Mt (d 1546) (d 1566 (d 1545 29)) (d 1567 (d 1545 29)) s))) := by
  unfold fX11_isWord fX11_isWord_43
  rw [wp_lv, wp_ck]
  refine ⟨h0, ?_⟩
  by_cases p : d 1565 (d 1545 29) = 1
  · obtain ⟨a, b, c⟩ := h p
    rw [if_pos p, wp_lv, wp_ck, wp_lv, wp_ck, w32_of (show (-2147483648 : Int) ≤ d 1567 (d 1545 29) - d 1566 (d 1545 29) by omega) (show d 1567 (d 1545 29) - d 1566 (d 1545 29) ≤ (2147483647 : Int) by omega)]
    refine ⟨h0, h0, ?_⟩
    by_cases q : d 1567 (d 1545 29) - d 1566 (d 1545 29) = sLen s
    · rw [if_pos q]
      refine wp_up1 (fun v => ∀ k, 0 ≤ k → k < v → d 1546 (d 1566 (d 1545 29) + k) = sAt s k) 0 (sLen s) (by omega) (fun v v0 v1 hI => ?_) (fun hI => ?_) (fun k k0 k1 => by omega)
      · unfold fX11_isWord_43f
        dsimp only
        rw [if_neg (by omega), wp_lv, wp_ck, wp_lv, w32_of (show (-2147483648 : Int) ≤ d 1566 (d 1545 29) + v by omega) (show d 1566 (d 1545 29) + v ≤ (2147483647 : Int) by omega), wp_ck, wp_ck]
        refine ⟨h0, by omega, by omega, ?_⟩
        by_cases r : d 1546 (d 1566 (d 1545 29) + v) = sAt s v
        · rw [if_pos r, wp_lv, wp_some, w32_of (show (-2147483648 : Int) ≤ v + 1 by omega) (show v + 1 ≤ (2147483647 : Int) by omega)]
          refine Or.inl ⟨rfl, fun k k0 k1 => ?_⟩
          by_cases z : k = v
          · subst z; exact r
          · exact hI k k0 (by omega)
        · rw [if_neg r, wp_up, wp_some]
          exact Or.inr ⟨_, rfl, Or.inr ⟨rfl, fun m => r (m.2.2 v v0 v1)⟩⟩
      · unfold fX11_isWord_43f
        dsimp only
        rw [if_pos (Int.le_refl _), wp_up, wp_some]
        exact ⟨_, rfl, Or.inl ⟨rfl, p, q, fun k k0 k1 => hI k k0 (by omega)⟩⟩
    · rw [if_neg q, wp_some]
      exact Or.inr ⟨rfl, fun m => q m.2.1⟩
  · rw [if_neg p, wp_some]
    exact Or.inr ⟨rfl, fun m => p m.1⟩
/-- the words' row -/
def Wo (d : Dt) : Prop := ∀ k, 0 ≤ k → k < 55 → d 14 k = -(10 + 2 * k)
theorem wordHere_X {d : Dt} (hw : Wo d) (h : 0 ≤ d 10 5 ∧ d 10 5 ≤ d 10 6 ∧ d 10 6 ≤ 4000) : wp (fX2_wordHere d) (fun r => (r = -1 ∧ ∀ k, 0 ≤ k → k < 55 → ¬ Mt (d 2) (d 10 5) (d 10 6) (-(10 + 2 * k))) ∨ ((0 ≤ r ∧ r < 55) ∧ Mt (d 2) (d 10 5) (d 10 6) (-(10 + 2 * r)))) := by
  unfold fX2_wordHere fX2_wordHere_2
  refine wp_up1 (fun v => ∀ k, 0 ≤ k → k < v → ¬ Mt (d 2) (d 10 5) (d 10 6) (-(10 + 2 * k))) 0 55 (by decide) (fun v v0 v1 hI => ?_) (fun hI => ?_) (fun k k0 k1 => by omega)
  · unfold fX2_wordHere_2f
    dsimp only
    rw [if_neg (by omega), wp_ck, wp_lv, wp_ck, wp_b1, hw v v0 v1]
    refine ⟨by omega, by omega, (isWord_X h).mono fun r hr => ?_⟩
    rcases hr with ⟨e, m⟩ | ⟨e, m⟩
    · rw [if_neg (by omega), wp_up, wp_some]
      exact Or.inr ⟨_, rfl, Or.inr ⟨⟨v0, v1⟩, m⟩⟩
    · rw [if_pos e, wp_lv, wp_some, w32_of (show (-2147483648 : Int) ≤ v + 1 by omega) (show v + 1 ≤ (2147483647 : Int) by omega)]
      refine Or.inl ⟨rfl, fun k k0 k1 => ?_⟩
      by_cases z : k = v
      · subst z; exact m
      · exact hI k k0 (by omega)
  · unfold fX2_wordHere_2f
    dsimp only
    rw [if_pos (by decide), wp_up, wp_some]
    exact ⟨_, rfl, Or.inl ⟨rfl, hI⟩⟩
theorem sByt_nd : (sByt.take 55).Nodup ∧ (sByt.take 55).length = 55 := by decide +kernel
theorem sTx_inj {i j : Nat} (hi : i < 55) (hj : j < 55) (h : sByt.getD i [] = sByt.getD j []) : i = j := by
  have g : ∀ k, k < 55 → (sByt.take 55)[k]? = some (sByt.getD k []) := fun k hk => by
    rw [List.getElem?_take_of_lt hk]
    have l : k < sByt.length := by
      have := sByt_nd.2
      rw [List.length_take] at this
      omega
    rw [List.getElem?_eq_getElem l, List.getD_eq_getElem?_getD, List.getElem?_eq_getElem l]
    rfl
  have li : i < (sByt.take 55).length := by rw [sByt_nd.2]; exact hi
  have e : (sByt.take 55)[i]? = (sByt.take 55)[j]? := by rw [g i hi, g j hj, h]
  exact (List.getElem?_inj li sByt_nd.1).mp e
/-- the words differ: a text is one of them at most -/
theorem Mt.uni {t : Int → Int} {a e i j : Int} (h : Mt t a e (-(10 + 2 * i))) (h' : Mt t a e (-(10 + 2 * j))) (hi : 0 ≤ i ∧ i < 55) (hj : 0 ≤ j ∧ j < 55) : i = j := by
  have l : sLen (-(10 + 2 * i)) = sLen (-(10 + 2 * j)) := by rw [← h.1, ← h'.1]
  have ei : ∀ k : Int, ((-(-(10 + 2 * k)) - 10) / 2).toNat = k.toNat := fun k => by omega
  have eq : sTx (-(10 + 2 * i)) = sTx (-(10 + 2 * j)) := by
    have l2 : (sTx (-(10 + 2 * i))).length = (sTx (-(10 + 2 * j))).length := by unfold sLen at l; omega
    refine List.ext_getElem l2 fun k k0 k1 => ?_
    have a1 := h.2 k (by omega) (by unfold sLen; omega)
    have a2 := h'.2 k (by omega) (by unfold sLen; omega)
    rw [a1] at a2
    unfold sAt at a2
    rw [show ((k : Nat) : Int).toNat = k by omega, List.getD_eq_getElem?_getD, List.getD_eq_getElem?_getD, List.getElem?_eq_getElem k0, List.getElem?_eq_getElem k1] at a2
    exact a2
  unfold sTx at eq
  rw [ei, ei] at eq
  have := sTx_inj (by omega) (by omega) eq
  omega
