/-! LEVEL 3: a condition is read: what holds of both sides on the way -/
set_option maxRecDepth 100000
theorem sgn_pop {c : Int} (hc : 15 ≤ c) {x : Dt} {K : List Int} {v v2 : Int} {E : (Int → Bool) → Option (List Bool)} {w z : Int} {o : Bool} (h : XC c x (v :: K) E w z o) (hv : v = 4000 ∨ (v = 4001 ∧ v2 = 0)) (hb : w + z ≤ 4000) {P : Dt → Prop} (hk : ∀ y, FQ c x y → XC c y K (fun τ => sX (x c 2) (x 10 13) τ v (E τ)) (w - 1) (z + 1) o → wp (fX2_sign_2_15 y c v2) P) : wp (fX2_sign_2_15 x c v2) P := by
  have hw := h.1
  have hl := h.len
  rw [List.length_cons] at hl
  have pp : wp (fX2_sign_2_39 x c v2) (fun r => (∃ s', r = .inl s' ∧ wp (loop (fX2_sign_2_15f c v2) s') P) ∨ ∃ z, r = .inr z ∧ P z) := by
    unfold fX2_sign_2_39
    rw [wp_bd]
    refine (pop_X hc h (by omega) (by omega)).mono fun y hy => wp_some.mpr (Or.inl ⟨y, rfl, ?_⟩)
    have e : (o != (v == 4002)) = o := by
      rw [show (v == 4002) = false from beq_eq_false_iff_ne.mpr (by omega), Bool.bne_false]
    have g := hy.2
    rw [e] at g
    exact hk y hy.1 g
  unfold fX2_sign_2_15
  refine wp_turn ?_
  rw [fX2_sign_2_15f]
  dsimp only
  rcases hv with rfl | ⟨rfl, rfl⟩
  · rw [isTop_1 h (by omega) rfl, b1_s, one_if]
    exact pp
  · rw [isTop_0 h (by omega) (by simp), b1_s, zer_if, zer_if, isTop_1 h (by omega) rfl, b1_s, one_if]
    exact pp
theorem sgn_end {c : Int} {x : Dt} {K : List Int} {v2 : Int} {E : (Int → Bool) → Option (List Bool)} {w z : Int} {o : Bool} (h : XC c x K E w z o) (h1 : K.head? ≠ some 4000) (h2 : v2 = 0 → K.head? ≠ some 4001) (hb : w ≤ 4000) {P : Dt → Prop} (hk : wp (fX2_sign_2_47 x c v2) P) : wp (fX2_sign_2_15 x c v2) P := by
  unfold fX2_sign_2_15
  refine wp_turn ?_
  rw [fX2_sign_2_15f]
  dsimp only
  rw [isTop_0 h hb h1, b1_s, zer_if]
  by_cases q : v2 = 0
  · rw [if_pos q, isTop_0 h hb (h2 q), b1_s, zer_if, wp_up]
    exact hk.mono fun r hr => Or.inr ⟨r, rfl, hr⟩
  · rw [if_neg q, wp_up]
    exact hk.mono fun r hr => Or.inr ⟨r, rfl, hr⟩
theorem fl0_head {D : List (Nat × Nat)} {v : Int} (hv : v ≠ -1) : (fl0 D).head? ≠ some v := by
  cases D with
  | nil => simp [fl0]
  | cons q D => simp only [fl0, List.head?_cons, ne_eq, Option.some.injEq]; omega
/-- AND -/
theorem sgn_and {c : Int} (hc : 15 ≤ c) {s : Nat} (hs : s ≤ 3) {D : List (Nat × Nat)} {x : Dt} {E : (Int → Bool) → Option (List Bool)} {w z : Int} {o : Bool} (h : XC c x (flat ((0, s) :: D)) E w z o) (hb : w + z + 1 ≤ 4000) (hv : x 10 8 = 15) {P : Dt → Prop} (hk : ∀ y w' z', FQ c x y → w' + z' = w + z + 1 → XC c y (flat ((0, if s ≤ 1 then 1 else 3) :: D)) (fun τ => if s = 1 ∨ s = 3 then sX (x c 2) (x 10 13) τ 4000 (E τ) else E τ) w' z' o → wp (fX2_take y) P) : wp (fX2_sign_2 x c) P := by
  have hw := h.1
  have fin : ∀ (y : Dt) (s' : Nat) (E' : (Int → Bool) → Option (List Bool)) (w' z' : Int), FQ c x y → w' + z' = w + z → 0 ≤ z' → (s' = 0 ∨ s' = 2) → XC c y (sgm s' ++ fl0 D) E' w' z' o → (∀ u, FQ c x u → XC c u (flat ((0, s' + 1) :: D)) E' (w' + 1) z' o → wp (fX2_take u) P) → wp (fX2_sign_2_15 y c 1) P := fun y s' E' w' z' hf hwz hz hs' hx hk' => by
    refine sgn_end hx ?_ (fun q => absurd q (by decide)) (by have := hx.1; omega) ?_
    · rcases hs' with rfl | rfl
      · exact fl0_head (by decide)
      · simp [sgm]
    · unfold fX2_sign_2_47 fX2_sign_2_61
      rw [if_neg (by decide), wp_bd]
      refine (push_X hc hx (by omega)).mono fun u hu => ?_
      rw [wp_bd]
      have g := hu.2
      have e : (4000 : Int) :: (sgm s' ++ fl0 D) = flat ((0, s' + 1) :: D) := by
        rw [flat_0]
        rcases hs' with rfl | rfl <;> rfl
      rw [e] at g
      exact (hk' u (hf.trans hu.1) g).mono fun r hr => wp_some.mpr hr
  unfold fX2_sign_2
  rw [if_pos hv]
  rw [flat_0] at h
  have cs : s = 0 ∨ s = 1 ∨ s = 2 ∨ s = 3 := by omega
  rcases cs with rfl | rfl | rfl | rfl
  · refine fin x 0 E w z FQ.refl rfl (by omega) (Or.inl rfl) h fun u hu gu => hk u (w + 1) z hu (by omega) ?_
    exact gu
  · refine sgn_pop hc (show XC c x (4000 :: fl0 D) E w z o from h) (Or.inl rfl) (by omega) fun y fy gy => ?_
    refine fin y 0 _ (w - 1) (z + 1) fy (by omega) (by omega) (Or.inl rfl) gy fun u hu gu => hk u (w - 1 + 1) (z + 1) hu (by omega) ?_
    exact gu
  · refine fin x 2 E w z FQ.refl rfl (by omega) (Or.inr rfl) h fun u hu gu => hk u (w + 1) z hu (by omega) ?_
    exact gu
  · refine sgn_pop hc (show XC c x (4000 :: (4001 :: fl0 D)) E w z o from h) (Or.inl rfl) (by omega) fun y fy gy => ?_
    refine fin y 2 _ (w - 1) (z + 1) fy (by omega) (by omega) (Or.inr rfl) gy fun u hu gu => hk u (w - 1 + 1) (z + 1) hu (by omega) ?_
    exact gu
/-- OR -/
theorem sgn_or {c : Int} (hc : 15 ≤ c) {s : Nat} (hs : s ≤ 3) {D : List (Nat × Nat)} {x : Dt} {E : (Int → Bool) → Option (List Bool)} {w z : Int} {o : Bool} (h : XC c x (flat ((0, s) :: D)) E w z o) (hb : w + z + 1 ≤ 4000) (hv : x 10 8 ≠ 15) {P : Dt → Prop} (hk : ∀ y w' z', FQ c x y → w' + z' = w + z + 1 → XC c y (flat ((0, 2) :: D)) (fun τ => jn (x c 2) (x 10 13) τ s (E τ)) w' z' o → wp (fX2_take y) P) : wp (fX2_sign_2 x c) P := by
  have hw := h.1
  have fin : ∀ (y : Dt) (E' : (Int → Bool) → Option (List Bool)) (w' z' : Int), FQ c x y → w' + z' = w + z → 0 ≤ z' → XC c y (fl0 D) E' w' z' o → (∀ u, FQ c x u → XC c u (flat ((0, 2) :: D)) E' (w' + 1) z' o → wp (fX2_take u) P) → wp (fX2_sign_2_15 y c 0) P := fun y E' w' z' hf hwz hz hx hk' => by
    refine sgn_end hx (fl0_head (by decide)) (fun _ => fl0_head (by decide)) (by have := hx.1; omega) ?_
    unfold fX2_sign_2_47 fX2_sign_2_61
    rw [if_pos rfl, wp_bd]
    refine (push_X hc hx (by omega)).mono fun u hu => ?_
    rw [wp_bd]
    have g := hu.2
    have e : (4001 : Int) :: fl0 D = flat ((0, 2) :: D) := by rw [flat_0]; rfl
    rw [e] at g
    exact (hk' u (hf.trans hu.1) g).mono fun r hr => wp_some.mpr hr
  unfold fX2_sign_2
  rw [if_neg hv]
  rw [flat_0] at h
  have cs : s = 0 ∨ s = 1 ∨ s = 2 ∨ s = 3 := by omega
  rcases cs with rfl | rfl | rfl | rfl
  · exact fin x E w z FQ.refl rfl (by omega) h fun u hu gu => hk u (w + 1) z hu (by omega) gu
  · refine sgn_pop hc (show XC c x (4000 :: fl0 D) E w z o from h) (Or.inl rfl) (by omega) fun y fy gy => ?_
    exact fin y _ (w - 1) (z + 1) fy (by omega) (by omega) gy fun u hu gu => hk u (w - 1 + 1) (z + 1) hu (by omega) gu
  · refine sgn_pop hc (show XC c x (4001 :: fl0 D) E w z o from h) (Or.inr ⟨rfl, rfl⟩) (by omega) fun y fy gy => ?_
    exact fin y _ (w - 1) (z + 1) fy (by omega) (by omega) gy fun u hu gu => hk u (w - 1 + 1) (z + 1) hu (by omega) gu
  · refine sgn_pop hc (show XC c x (4000 :: (4001 :: fl0 D)) E w z o from h) (Or.inl rfl) (by omega) fun y fy gy => ?_
    refine sgn_pop hc gy (Or.inr ⟨rfl, rfl⟩) (by omega) fun y2 fy2 gy2 => ?_
    rw [fy c 2 (by omega) (by omega) (by omega) (by omega), fy 10 13 (by omega) (by omega) (by omega) (by omega)] at gy2
    exact fin y2 _ (w - 1 - 1) (z + 1 + 1) (fy.trans fy2) (by omega) (by omega) gy2 fun u hu gu => hk u (w - 1 - 1 + 1) (z + 1 + 1) hu (by omega) gu
/-- the first test that is not as its place wants it -/
def fsX (τ : Int → Bool) (R : Int → Int) (f : Int) : Nat → Int
  | 0 => -1
  | m + 1 => if 0 ≤ fsX τ R f m then fsX τ R f m else if τ (f + m) = decide (R (f + m) ≠ 0) then f + m else -1
theorem fsX_cg {τ : Int → Bool} {R R' : Int → Int} {f : Int} : ∀ {n : Nat}, (∀ k : Int, f ≤ k → k < f + n → R' k = R k) → fsX τ R' f n = fsX τ R f n := by
  intro n
  induction n with
  | zero => intro _; rfl
  | succ n ih =>
    intro h
    simp only [fsX]
    rw [ih (fun k k0 k1 => h k k0 (by omega)), h (f + n) (by omega) (by omega)]
def TR (x y : Dt) : Prop := (0 ≤ x 10 13 ∧ x 10 13 ≤ 40) ∧ (y 1571 0 = x 10 13 ∨ (x 10 13 = 40 ∧ y 1571 0 = 41 ∧ x 10 9 ≠ -1))
/-- test k is the same -/
def TS (L A : Int) (x y : Dt) (k : Int) : Prop := ((x (L + 6) k = 17 ∧ y 1572 k = 0 ∧ x (L + 7) k ≤ 150) ∨ (x (L + 6) k = 18 ∧ y 1572 k = 1 ∧ 1 ≤ x (L + 7) k ∧ x (L + 7) k ≤ 400) ∨ (x (L + 6) k = 9 ∧ y 1572 k = 2 ∧ x (L + 7) k < A) ∨ (x (L + 6) k = 19 ∧ y 1572 k = 3 ∧ x (L + 7) k ≤ 9)) ∧ (0 ≤ x (L + 7) k ∧ x (L + 7) k = y 1573 k) ∧ ((x (L + 8) k = -1 ∧ y 1574 k = -2147483648) ∨ (x (L + 8) k = y 1574 k ∧ 0 ≤ x (L + 8) k ∧ x (L + 8) k ≤ 36524)) ∧ x (L + 9) k = y 1575 k ∧ (0 ≤ x (L + 9) k ∧ x (L + 9) k ≤ 4000) ∧ (x (L + 10) k = 0 ∨ x (L + 10) k = 1)
/-- a condition's frames -/
def FCX (c L f : Int) (a x : Dt) : Prop := ∀ p q, ¬ (p = 10 ∧ ((5 ≤ q ∧ q ≤ 9) ∨ q = 13 ∨ q = 15 ∨ q = 16)) → p ≠ 11 → p ≠ 13 → ¬ (p = c ∧ 1 ≤ q ∧ q ≤ 3) → p ≠ c + 1 → ¬ (L + 6 ≤ p ∧ p ≤ L + 10 ∧ f ≤ q) → x p q = a p q
def FCM (W f : Int) (b y : Dt) : Prop := ∀ p q, ¬ (p = 1545 ∧ 29 ≤ q ∧ q ≤ 35) → ¬ (p = 1569 ∧ 4002 * W ≤ q ∧ q < 4002 * W + 4002) → ¬ (p = 1570 ∧ q = W) → ¬ (p = 1571 ∧ q = 0) → ¬ (1572 ≤ p ∧ p ≤ 1575 ∧ f ≤ q ∧ q ≤ 40) → y p q = b p q
/-- the condition so far; S: values against levels -/
def CJ (t : Int → Int) (n : Int) (N : Nat) (a b : Dt) (L c W f A : Int) (i0 : Nat) (S : List (Nat × Nat) → List Bool → List Lvl → Prop) (x y : Dt) (j : Nat) (D : List (Nat × Nat)) : Prop :=
  (RL t n N x y j ∧ FCX c L f a x ∧ FCM W f b y ∧ Wm a x ∧ i0 ≤ j) ∧
  (∃ w z E, XC c x (flat D) E w z (par D) ∧ w + z + 1 ≤ (j : Int) ∧ (x 10 9 = -1 → D.length ≤ 31 ∧ ∀ τ, ∃ V Lv, E τ = some V ∧ evM f (x 10 13) τ (fun k => y 1569 (4002 * W + k)) (y 1570 W).toNat = some (Lv, fsX τ (x (L + 10)) f (x 10 13 - f).toNat) ∧ S D V Lv)) ∧
  (0 ≤ y 1570 W ∧ y 1570 W + 1 ≤ (j : Int)) ∧ (TR x y ∧ 0 ≤ f ∧ f ≤ x 10 13) ∧ (x c 2 = f ∧ x c 3 = x 10 13 ∧ x 10 10 = L) ∧ (x 10 9 = -1 → ∀ k, f ≤ k → k < x 10 13 → TS L A x y k) ∧ (∀ q ∈ D, q.2 ≤ 3) ∧ (x 3 1 = A ∧ y 1545 3 = A)
/-- a step is added -/
def aS (y : Dt) (W v : Int) : Dt := st (st y 1569 (4002 * W + y 1570 W) v) 1570 W (y 1570 W + 1)
theorem addStep_M {y : Dt} {W v : Int} (hW : 0 ≤ W ∧ W ≤ 1) (hn : 0 ≤ y 1570 W ∧ y 1570 W ≤ 4001) : fX11_addStep y W v = some (aS y W v) := by
  unfold fX11_addStep aS
  rw [ck_pos (by omega), w32_o (v := 4002 * W) (by omega), w32_o (v := 4002 * W + y 1570 W) (by omega), lv_e, ck_pos (by omega), sd_e, sd_e, st_na (by decide), w32_o (by omega)]
theorem aS_at {y : Dt} {W v p q : Int} (h1 : ¬ (p = 1569 ∧ q = 4002 * W + y 1570 W)) (h2 : ¬ (p = 1570 ∧ q = W)) : aS y W v p q = y p q := by
  unfold aS st
  rw [if_neg h2, if_neg h1]
theorem aS_ev {y : Dt} {W v : Int} (hn : 0 ≤ y 1570 W) {lo hi : Int} {τ : Int → Bool} : aS y W v 1570 W = y 1570 W + 1 ∧ evM lo hi τ (fun k => aS y W v 1569 (4002 * W + k)) (aS y W v 1570 W).toNat = sM lo hi τ v (evM lo hi τ (fun k => y 1569 (4002 * W + k)) (y 1570 W).toNat) := by
  have e1 : aS y W v 1570 W = y 1570 W + 1 := st_eq _ _ _ _
  refine ⟨e1, ?_⟩
  rw [e1, show (y 1570 W + 1).toNat = (y 1570 W).toNat + 1 by omega]
  simp only [evM]
  have e2 : aS y W v 1569 (4002 * W + ((y 1570 W).toNat : Int)) = v := by
    unfold aS
    rw [st_na (by decide), show ((y 1570 W).toNat : Int) = y 1570 W by omega, st_eq]
  rw [e2]
  congr 1
  refine evM_cg fun k k0 k1 => ?_
  exact aS_at (by omega) (by omega)
