/-! LEVEL 3: X's stack of signs that wait -/
set_option maxRecDepth 100000
def FQ (c : Int) (x z : Dt) : Prop := ∀ p q, ¬ (p = 10 ∧ 15 ≤ q ∧ q ≤ 16) → p ≠ 13 → ¬ (p = c ∧ q = 1) → p ≠ c + 1 → z p q = x p q
theorem FQ.refl {c : Int} {x : Dt} : FQ c x x := fun _ _ _ _ _ _ => rfl
theorem FQ.trans {c : Int} {x y z : Dt} (h : FQ c x y) (h' : FQ c y z) : FQ c x z := fun p q a b e f => (h' p q a b e f).trans (h p q a b e f)
/-- the stack K, the values E by tests, how many wait, the code's size, whether turned -/
def XC (c : Int) (x : Dt) (K : List Int) (E : (Int → Bool) → Option (List Bool)) (w s : Int) (o : Bool) : Prop := (x 10 15 = w ∧ x c 1 = s ∧ 0 ≤ w ∧ 0 ≤ s) ∧ rdS (x 13) w.toNat = K ∧ (∀ τ, ev (x c 2) (x 10 13) τ (x (c + 1)) s.toNat = E τ) ∧ x 10 16 = if o = true then 1 else 0
theorem XC.len {c : Int} {x : Dt} {K : List Int} {E : (Int → Bool) → Option (List Bool)} {w s : Int} {o : Bool} (h : XC c x K E w s o) : (K.length : Int) = w := by
  obtain ⟨⟨h1, h2, h3, h4⟩, h5, -⟩ := h
  rw [← h5, rdS_len]
  omega
theorem isTop_X {c : Int} {x : Dt} {K : List Int} {E : (Int → Bool) → Option (List Bool)} {w s : Int} {o : Bool} (h : XC c x K E w s o) (hw : w ≤ 4000) {v : Int} : fX2_isTop x v = some (if K.head? = some v then 1 else 0) := by
  obtain ⟨⟨h1, h2, h3, h4⟩, h5, -⟩ := h
  unfold fX2_isTop
  rw [h1]
  by_cases q : w ≤ 0
  · rw [if_pos q, ← h5, show w.toNat = 0 by omega]
    rfl
  · rw [if_neg q, lv_e, w32_o (by omega), ck_pos (by omega), ← h5, show w.toNat = (w - 1).toNat + 1 by omega]
    simp only [rdS, List.head?_cons, Option.some.injEq]
    rw [show (((w - 1).toNat : Nat) : Int) = w - 1 by omega]
    split <;> rfl
theorem isTop_1 {c : Int} {x : Dt} {K : List Int} {E : (Int → Bool) → Option (List Bool)} {w s : Int} {o : Bool} (h : XC c x K E w s o) (hw : w ≤ 4000) {v : Int} (hv : K.head? = some v) : fX2_isTop x v = some 1 := by rw [isTop_X h hw, if_pos hv]
theorem isTop_0 {c : Int} {x : Dt} {K : List Int} {E : (Int → Bool) → Option (List Bool)} {w s : Int} {o : Bool} (h : XC c x K E w s o) (hw : w ≤ 4000) {v : Int} (hv : K.head? ≠ some v) : fX2_isTop x v = some 0 := by rw [isTop_X h hw, if_neg hv]
theorem bx01 {o b : Bool} : bXor (if o = true then 1 else 0) (if b = true then 1 else 0) = if (o != b) = true then 1 else 0 := by
  cases o <;> cases b <;> decide
theorem put_X {x : Dt} {c v : Int} (hs : 0 ≤ x c 1 ∧ x c 1 < 4000) : fX5_put x c v = some (st (st x (c + 1) (x c 1) v) c 1 (x c 1 + 1)) := by
  unfold fX5_put
  rw [lv_e, ck_pos hs, sd_e, sd_e, st_na (by omega), w32_o (by omega)]
theorem pop_X {c : Int} {x : Dt} {K : List Int} {v : Int} {E : (Int → Bool) → Option (List Bool)} {w s : Int} {o : Bool} (hc : 15 ≤ c) (h : XC c x (v :: K) E w s o) (hw : w ≤ 4000) (hs : s < 4000) : wp (fX2_pop x c) (fun z => FQ c x z ∧ XC c z K (fun τ => sX (x c 2) (x 10 13) τ v (E τ)) (w - 1) (s + 1) (o != (v == 4002))) := by
  have hl := h.len
  obtain ⟨⟨h1, h2, h3, h4⟩, h5, h6, h7⟩ := h
  rw [List.length_cons] at hl
  have h8 : (v :: K) = x 13 (w - 1) :: rdS (x 13) (w - 1).toNat := by
    rw [← h5, show w.toNat = (w - 1).toNat + 1 by omega]
    simp only [rdS]
    rw [show (((w - 1).toNat : Nat) : Int) = w - 1 by omega]
  injection h8 with h9 h10
  unfold fX2_pop
  rw [h1, w32_o (by omega), sd_e, lv_e, st_eq, ck_pos (by omega), lv_e, st_na (by decide), ← h9]
  rw [put_X (by rw [st_na (by omega)]; omega), bd_s, st_na (by omega), h2]
  have e16 : st (st (st x 10 15 (w - 1)) (c + 1) s v) c 1 (s + 1) 10 16 = if o = true then 1 else 0 := by simp (disch := omega) only [w32_o, w64_o, w8_o, st_eq, st_na, st_nk, ck_pos, wp_sd, wp_lv, wp_lm, wp_some, wp_b1, wp_bd, wp_b2, wp_b3, wp_up, wp_map]; exact h7
  rw [e16]
  have fin : ∀ b : Bool, wp (fX2_pop_42 (st (st (st x 10 15 (w - 1)) (c + 1) s v) c 1 (s + 1)) c (if o = true then 1 else 0) (if b = true then 1 else 0)) (fun z => FQ c x z ∧ XC c z K (fun τ => sX (x c 2) (x 10 13) τ v (E τ)) (w - 1) (s + 1) (o != b)) := fun b => by
    unfold fX2_pop_42
    rw [bx01, lv_e, wp_ck, wp_sd, wp_some]
    refine ⟨by cases (o != b) <;> simp, fun p q u1 u2 u3 u4 => ?_, ⟨⟨by simp (disch := omega) only [w32_o, w64_o, w8_o, st_eq, st_na, st_nk, ck_pos, wp_sd, wp_lv, wp_lm, wp_some, wp_b1, wp_bd, wp_b2, wp_b3, wp_up, wp_map], by simp (disch := omega) only [w32_o, w64_o, w8_o, st_eq, st_na, st_nk, ck_pos, wp_sd, wp_lv, wp_lm, wp_some, wp_b1, wp_bd, wp_b2, wp_b3, wp_up, wp_map], by omega, by omega⟩, ?_, fun τ => ?_, st_eq _ _ _ _⟩⟩
    · unfold st
      rw [if_neg (by omega), if_neg (by omega), if_neg (by omega), if_neg (by omega)]
    · rw [h10]
      refine rdS_cg fun k _ _ => ?_
      simp (disch := omega) only [w32_o, w64_o, w8_o, st_eq, st_na, st_nk, ck_pos, wp_sd, wp_lv, wp_lm, wp_some, wp_b1, wp_bd, wp_b2, wp_b3, wp_up, wp_map]
    · have g1 : st (st (st (st x 10 15 (w - 1)) (c + 1) s v) c 1 (s + 1)) 10 16 (if (o != b) = true then 1 else 0) c 2 = x c 2 := by simp (disch := omega) only [w32_o, w64_o, w8_o, st_eq, st_na, st_nk, ck_pos, wp_sd, wp_lv, wp_lm, wp_some, wp_b1, wp_bd, wp_b2, wp_b3, wp_up, wp_map]
      have g2 : st (st (st (st x 10 15 (w - 1)) (c + 1) s v) c 1 (s + 1)) 10 16 (if (o != b) = true then 1 else 0) 10 13 = x 10 13 := by simp (disch := omega) only [w32_o, w64_o, w8_o, st_eq, st_na, st_nk, ck_pos, wp_sd, wp_lv, wp_lm, wp_some, wp_b1, wp_bd, wp_b2, wp_b3, wp_up, wp_map]
      rw [g1, g2, show (s + 1).toNat = s.toNat + 1 by omega]
      simp only [ev]
      rw [show ((s.toNat : Nat) : Int) = s by omega]
      have : ev (x c 2) (x 10 13) τ (st (st (st (st x 10 15 (w - 1)) (c + 1) s v) c 1 (s + 1)) 10 16 (if (o != b) = true then 1 else 0) (c + 1)) s.toNat = ev (x c 2) (x 10 13) τ (x (c + 1)) s.toNat := ev_cg fun k k0 k1 => by
        simp (disch := omega) only [w32_o, w64_o, w8_o, st_eq, st_na, st_nk, ck_pos, wp_sd, wp_lv, wp_lm, wp_some, wp_b1, wp_bd, wp_b2, wp_b3, wp_up, wp_map]
      rw [this, h6]
      simp (disch := omega) only [w32_o, w64_o, w8_o, st_eq, st_na, st_nk, ck_pos, wp_sd, wp_lv, wp_lm, wp_some, wp_b1, wp_bd, wp_b2, wp_b3, wp_up, wp_map]
  by_cases q : v = 4002
  · rw [if_pos q]
    have := fin true
    rw [if_pos rfl] at this
    rw [show (v == 4002) = true from beq_iff_eq.mpr q]
    exact this
  · rw [if_neg q]
    have := fin false
    rw [if_neg (show ¬ false = true by decide)] at this
    rw [show (v == 4002) = false from beq_eq_false_iff_ne.mpr q]
    exact this
def tn (lo hi : Int) (τ : Int → Bool) : Nat → Option (List Bool) → Option (List Bool)
  | 0, o => o
  | k + 1, o => tn lo hi τ k (sX lo hi τ 4002 o)
theorem tn_v {lo hi : Int} {τ : Int → Bool} : ∀ {k : Nat} {v : Bool} {W : List Bool}, tn lo hi τ k (some (v :: W)) = some ((v != odd k) :: W) := by
  intro k
  induction k with
  | zero => intro v W; simp only [tn]; rw [show odd 0 = false from rfl, Bool.bne_false]
  | succ k ih =>
    intro v W
    simp only [tn, sX_turn]
    rw [ih, odd_S]
    cases v <;> cases odd k <;> rfl
theorem flat0_head {s : Nat} {D : List (Nat × Nat)} : (flat ((0, s) :: D)).head? ≠ some 4002 := by
  rw [flat_0]
  unfold sgm fl0
  by_cases h0 : s = 0
  · rw [if_pos h0]
    cases D <;> simp
  · rw [if_neg h0]
    by_cases h1 : s = 1
    · rw [if_pos h1]; simp
    · rw [if_neg h1]
      by_cases h2 : s = 2
      · rw [if_pos h2]; simp
      · rw [if_neg h2]; simp
theorem turns_X {c : Int} (hc : 15 ≤ c) {s : Nat} {D : List (Nat × Nat)} : ∀ (k : Nat) {x : Dt} {E : (Int → Bool) → Option (List Bool)} {w z : Int} {o : Bool}, XC c x (flat ((k, s) :: D)) E w z o → w + z ≤ 4000 → wp (fX2_turns x c) (fun y => FQ c x y ∧ XC c y (flat ((0, s) :: D)) (fun τ => tn (x c 2) (x 10 13) τ k (E τ)) (w - k) (z + k) (o != odd k)) := by
  intro k
  induction k with
  | zero =>
    intro x E w z o h hb
    have hw := h.1
    unfold fX2_turns fX2_turns_0
    refine loop_wp ?_
    unfold fX2_turns_0f
    dsimp only
    rw [isTop_0 h (by omega) flat0_head, b1_s, zer_if, up_s, wp_some]
    refine ⟨x, rfl, FQ.refl, ?_⟩
    rw [show odd 0 = false from rfl, Bool.bne_false]
    simp only [tn]
    simpa using h
  | succ k ih =>
    intro x E w z o h hb
    have hw := h.1
    have hl := h.len
    rw [flat_S] at h hl
    rw [List.length_cons] at hl
    unfold fX2_turns fX2_turns_0
    refine wp_turn ?_
    rw [fX2_turns_0f]
    dsimp only
    rw [isTop_1 h (by omega) rfl, b1_s, one_if, wp_bd]
    refine (pop_X hc h (by omega) (by omega)).mono fun y hy => wp_some.mpr (Or.inl ⟨y, rfl, ?_⟩)
    have := ih hy.2 (by omega)
    unfold fX2_turns fX2_turns_0 at this
    refine this.mono fun u hu => ⟨hy.1.trans hu.1, ?_⟩
    have g := hu.2
    have g1 : y c 2 = x c 2 := hy.1 _ _ (by omega) (by omega) (by omega) (by omega)
    have g2 : y 10 13 = x 10 13 := hy.1 _ _ (by omega) (by omega) (by omega) (by omega)
    rw [g1, g2] at g
    have e2 : ((o != ((4002 : Int) == 4002)) != odd k) = (o != odd (k + 1)) := by
      rw [show ((4002 : Int) == 4002) = true from rfl, odd_S]
      cases o <;> cases odd k <;> rfl
    rw [e2, show w - 1 - (k : Int) = w - ((k + 1 : Nat) : Int) by omega, show z + 1 + (k : Int) = z + ((k + 1 : Nat) : Int) by omega] at g
    exact g
/-- AND, OR of a level are done -/
def jn (lo hi : Int) (τ : Int → Bool) (s : Nat) (l : Option (List Bool)) : Option (List Bool) := if s = 0 then l else if s = 1 then sX lo hi τ 4000 l else if s = 2 then sX lo hi τ 4001 l else sX lo hi τ 4001 (sX lo hi τ 4000 l)
theorem joins_end {c : Int} {x : Dt} {K : List Int} {E : (Int → Bool) → Option (List Bool)} {w z : Int} {o : Bool} {D : List (Nat × Nat)} (h : XC c x K E w z o) (hK : K = fl0 D) (hb : w ≤ 4000) : wp (fX2_joins x c) (fun y => y = x) := by
  have hw := h.1
  have hl := h.len
  unfold fX2_joins fX2_joins_0
  refine loop_wp ?_
  unfold fX2_joins_0f
  dsimp only
  rw [hw.1]
  by_cases q : w ≤ 0
  · rw [if_pos q, up_s, wp_some]
    exact ⟨_, rfl, rfl⟩
  · rw [if_neg q, isTop_1 h hb, b1_s, one_if, up_s, wp_some]
    · exact ⟨_, rfl, rfl⟩
    · subst hK
      cases D with
      | nil => simp [fl0] at hl; omega
      | cons _ _ => rfl
theorem joins_pop {c : Int} (hc : 15 ≤ c) {x : Dt} {K : List Int} {v : Int} {E : (Int → Bool) → Option (List Bool)} {w z : Int} {o : Bool} (h : XC c x (v :: K) E w z o) (hv : v = 4000 ∨ v = 4001) (hb : w + z ≤ 4000) {P : Dt → Prop} (hk : ∀ y, FQ c x y → XC c y K (fun τ => sX (x c 2) (x 10 13) τ v (E τ)) (w - 1) (z + 1) o → wp (fX2_joins y c) P) : wp (fX2_joins x c) P := by
  have hw := h.1
  have hl := h.len
  rw [List.length_cons] at hl
  unfold fX2_joins fX2_joins_0
  refine wp_turn ?_
  rw [fX2_joins_0f]
  dsimp only
  rw [hw.1, if_neg (by omega), isTop_0 h (by omega), b1_s, zer_if, wp_bd]
  · refine (pop_X hc h (by omega) (by omega)).mono fun y hy => wp_some.mpr (Or.inl ⟨y, rfl, ?_⟩)
    have e : (o != (v == 4002)) = o := by
      rw [show (v == 4002) = false from beq_eq_false_iff_ne.mpr (by omega), Bool.bne_false]
    have g := hy.2
    rw [e] at g
    exact hk y hy.1 g
  · rcases hv with rfl | rfl <;> simp
theorem joins_X {c : Int} (hc : 15 ≤ c) {s : Nat} (hs : s ≤ 3) {D : List (Nat × Nat)} {x : Dt} {E : (Int → Bool) → Option (List Bool)} {w z : Int} {o : Bool} (h : XC c x (flat ((0, s) :: D)) E w z o) (hb : w + z ≤ 4000) : wp (fX2_joins x c) (fun y => FQ c x y ∧ ∃ w' z', w' + z' = w + z ∧ XC c y (fl0 D) (fun τ => jn (x c 2) (x 10 13) τ s (E τ)) w' z' o) := by
  have hw := h.1
  rw [flat_0] at h
  unfold sgm at h
  unfold jn
  by_cases h0 : s = 0
  · simp only [if_pos h0] at h ⊢
    exact (joins_end h rfl (by omega)).mono fun y hy => by subst hy; exact ⟨FQ.refl, w, z, rfl, h⟩
  · simp only [if_neg h0] at h ⊢
    by_cases h1 : s = 1
    · simp only [if_pos h1] at h ⊢
      refine joins_pop hc h (Or.inl rfl) hb fun y fy gy => ?_
      exact (joins_end gy rfl (by omega)).mono fun u hu => by subst hu; exact ⟨fy, w - 1, z + 1, by omega, gy⟩
    · simp only [if_neg h1] at h ⊢
      by_cases h2 : s = 2
      · simp only [if_pos h2] at h ⊢
        refine joins_pop hc h (Or.inr rfl) hb fun y fy gy => ?_
        exact (joins_end gy rfl (by omega)).mono fun u hu => by subst hu; exact ⟨fy, w - 1, z + 1, by omega, gy⟩
      · simp only [if_neg h2] at h ⊢
        refine joins_pop hc h (Or.inl rfl) hb fun y fy gy => ?_
        refine joins_pop hc gy (Or.inr rfl) (by omega) fun y2 fy2 gy2 => ?_
        rw [fy c 2 (by omega) (by omega) (by omega) (by omega), fy 10 13 (by omega) (by omega) (by omega) (by omega)] at gy2
        exact (joins_end gy2 rfl (by have := gy2.1; omega)).mono fun u hu => by subst hu; exact ⟨fy.trans fy2, w - 1 - 1, z + 1 + 1, by omega, gy2⟩
theorem push_X {c : Int} (hc : 15 ≤ c) {x : Dt} {K : List Int} {v : Int} {E : (Int → Bool) → Option (List Bool)} {w s : Int} {o : Bool} (h : XC c x K E w s o) (hw : w < 4000) : wp (fX2_push x v) (fun z => FQ c x z ∧ XC c z (v :: K) E (w + 1) s o) := by
  obtain ⟨⟨h1, h2, h3, h4⟩, h5, h6, h7⟩ := h
  unfold fX2_push
  rw [lv_e, h1, ck_pos (by omega), sd_e, sd_e, wp_some, st_na (by decide), h1, w32_o (by omega)]
  refine ⟨fun p q u1 u2 u3 u4 => ?_, ⟨⟨by simp (disch := omega) only [w32_o, w64_o, w8_o, st_eq, st_na, st_nk, ck_pos, wp_sd, wp_lv, wp_lm, wp_some, wp_b1, wp_bd, wp_b2, wp_b3, wp_up, wp_map], by simp (disch := omega) only [w32_o, w64_o, w8_o, st_eq, st_na, st_nk, ck_pos, wp_sd, wp_lv, wp_lm, wp_some, wp_b1, wp_bd, wp_b2, wp_b3, wp_up, wp_map]; exact h2, by omega, h4⟩, ?_, fun τ => ?_, by simp (disch := omega) only [w32_o, w64_o, w8_o, st_eq, st_na, st_nk, ck_pos, wp_sd, wp_lv, wp_lm, wp_some, wp_b1, wp_bd, wp_b2, wp_b3, wp_up, wp_map]; exact h7⟩⟩
  · unfold st
    rw [if_neg (by omega), if_neg (by omega)]
  · rw [show (w + 1).toNat = w.toNat + 1 by omega]
    simp only [rdS]
    rw [show ((w.toNat : Nat) : Int) = w by omega, ← h5]
    have : rdS (st (st x 13 w v) 10 15 (w + 1) 13) w.toNat = rdS (x 13) w.toNat := rdS_cg fun k k0 k1 => by
      simp (disch := omega) only [w32_o, w64_o, w8_o, st_eq, st_na, st_nk, ck_pos, wp_sd, wp_lv, wp_lm, wp_some, wp_b1, wp_bd, wp_b2, wp_b3, wp_up, wp_map]
    rw [this]
    simp (disch := omega) only [w32_o, w64_o, w8_o, st_eq, st_na, st_nk, ck_pos, wp_sd, wp_lv, wp_lm, wp_some, wp_b1, wp_bd, wp_b2, wp_b3, wp_up, wp_map]
  · rw [← h6]
    have g1 : ∀ a b v, st (st x 13 a b) 10 15 v c 2 = x c 2 := fun a b v => by simp (disch := omega) only [w32_o, w64_o, w8_o, st_eq, st_na, st_nk, ck_pos, wp_sd, wp_lv, wp_lm, wp_some, wp_b1, wp_bd, wp_b2, wp_b3, wp_up, wp_map]
    have g2 : ∀ a b v, st (st x 13 a b) 10 15 v 10 13 = x 10 13 := fun a b v => by simp (disch := omega) only [w32_o, w64_o, w8_o, st_eq, st_na, st_nk, ck_pos, wp_sd, wp_lv, wp_lm, wp_some, wp_b1, wp_bd, wp_b2, wp_b3, wp_up, wp_map]
    rw [g1, g2]
    exact ev_cg fun k k0 k1 => by simp (disch := omega) only [w32_o, w64_o, w8_o, st_eq, st_na, st_nk, ck_pos, wp_sd, wp_lv, wp_lm, wp_some, wp_b1, wp_bd, wp_b2, wp_b3, wp_up, wp_map]
/-- the stack's states by levels -/
theorem fl0_flat {q : Nat × Nat} {D : List (Nat × Nat)} : fl0 (q :: D) = (-1) :: flat (q :: D) := rfl
/-- the bracket that was opened goes away -/
theorem drop_X {c : Int} {x : Dt} {K : List Int} {v : Int} {E : (Int → Bool) → Option (List Bool)} {w s : Int} {o : Bool} (hc : 15 ≤ c) (h : XC c x (v :: K) E w s o) (hw : w ≤ 4000) : FQ c x (st x 10 15 (w32 (x 10 15 - 1))) ∧ XC c (st x 10 15 (w32 (x 10 15 - 1))) K E (w - 1) s o := by
  have hl := h.len
  obtain ⟨⟨h1, h2, h3, h4⟩, h5, h6, h7⟩ := h
  rw [List.length_cons] at hl
  have h8 : (v :: K) = x 13 (w - 1) :: rdS (x 13) (w - 1).toNat := by
    rw [← h5, show w.toNat = (w - 1).toNat + 1 by omega]
    simp only [rdS]
    rw [show (((w - 1).toNat : Nat) : Int) = w - 1 by omega]
  injection h8 with h9 h10
  rw [h1, w32_o (by omega)]
  refine ⟨fun p q u1 u2 u3 u4 => ?_, ⟨⟨by simp (disch := omega) only [w32_o, w64_o, w8_o, st_eq, st_na, st_nk, ck_pos, wp_sd, wp_lv, wp_lm, wp_some, wp_b1, wp_bd, wp_b2, wp_b3, wp_up, wp_map], by simp (disch := omega) only [w32_o, w64_o, w8_o, st_eq, st_na, st_nk, ck_pos, wp_sd, wp_lv, wp_lm, wp_some, wp_b1, wp_bd, wp_b2, wp_b3, wp_up, wp_map]; exact h2, by omega, h4⟩, ?_, fun τ => ?_, by simp (disch := omega) only [w32_o, w64_o, w8_o, st_eq, st_na, st_nk, ck_pos, wp_sd, wp_lv, wp_lm, wp_some, wp_b1, wp_bd, wp_b2, wp_b3, wp_up, wp_map]; exact h7⟩⟩
  · unfold st
    rw [if_neg (by omega)]
  · rw [h10]
    exact rdS_cg fun k _ _ => by simp (disch := omega) only [w32_o, w64_o, w8_o, st_eq, st_na, st_nk, ck_pos, wp_sd, wp_lv, wp_lm, wp_some, wp_b1, wp_bd, wp_b2, wp_b3, wp_up, wp_map]
  · rw [← h6, st_na (by omega), st_nk (by decide)]
    exact ev_cg fun k k0 k1 => by simp (disch := omega) only [w32_o, w64_o, w8_o, st_eq, st_na, st_nk, ck_pos, wp_sd, wp_lv, wp_lm, wp_some, wp_b1, wp_bd, wp_b2, wp_b3, wp_up, wp_map]
