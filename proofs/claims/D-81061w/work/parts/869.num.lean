/-! LEVEL 3: numbers, signs and words are taken on both sides -/
set_option maxRecDepth 100000
/-- M keeps something beside the row's place and the blame -/
theorem RL.keep {t : Int → Int} {n : Int} {N : Nat} {a b y : Dt} {i : Nat} (h : RL t n N a b i) (hf : FM b y) (h1 : y 1545 29 = b 1545 29) (h2 : y 1545 31 = b 1545 31) : SS t n N a b a y i := ⟨FX.refl, hf, Wm.refl, h.1, h.2.1.cg hf h1, by
  have w := h.2.2
  unfold Wr at w ⊢
  rw [h2]
  exact w⟩
theorem FM.sto {b y : Dt} {k v : Int} (h : FM b y) (hk : 29 ≤ k ∧ k ≤ 35) : FM b (st y 1545 k v) := fun p q u => by
  unfold st
  rw [if_neg (by omega)]
  exact h p q u
theorem SS.bl {t : Int → Int} {n : Int} {N : Nat} {a b x y : Dt} {i : Nat} (h : SS t n N a b x y i) {p : Int} (hp : 0 ≤ p ∧ p ≤ 4000) : SS t n N a b (nt x 0 p) (bl y p) i := h.trans (h.2.2.2.nb hp).1
theorem cp_number {t : Int → Int} {n : Int} {N : Nat} {a b : Dt} {i : Nat} (h : RL t n N a b i) : CP (fX2_number a) (fX11_takeNumber b) (Ef a b) (fun v x y => SS t n N a b x y (i + 1) ∧ (kd t n i = 2 ∧ v = nu t n i ∧ 0 ≤ v ∧ v ≤ 99999) ∧ y 1545 32 = v ∧ y 1545 33 = sp t n i ∧ y 1545 34 = b 1545 34 ∧ y 1545 35 = b 1545 35) := by
  have hr := h.sp
  obtain ⟨-, -, h3, -, ⟨h5, h6, h7⟩, -, h9, -⟩ := h.1
  obtain ⟨⟨-, -, -, h4, -⟩, hi, hN⟩ := h.2.1
  obtain ⟨r1, r2, r3, r4⟩ := h4 i hN
  have e := en_in (t := t) h3.1 i
  have e32 : ∀ v w, st (st b 1545 32 v) 1545 33 w 1545 29 = i := fun v w => by simp (disch := omega) only [w32_o, w64_o, w8_o, st_eq, st_na, st_nk, ck_pos, wp_sd, wp_lv, wp_lm, wp_some, wp_b1, wp_bd, wp_b2, wp_b3, wp_up, wp_map]; exact hi
  unfold fX2_number fX11_takeNumber
  rw [h7, lv, hi, ck_pos (by omega), r3]
  by_cases k : kd t n i = 2
  · have lt := h.lt_k (Or.inr k)
    have nn := nu_in (t := t) h3.1 k
    rw [if_pos k, if_pos (ms_k.2.2.mpr k), lv, ck_pos (by omega), sd, lv, st_nk (by decide), hi, ck_pos (by omega), sd, lv, e32, ck_pos (by omega), lv, ck_pos (by omega)]
    rw [r4 k, show st b 1545 32 (nu t n i) 1566 i = sp t n i by rw [st_na (by decide), r1]]
    have g1 : st (st b 1545 32 (nu t n i)) 1545 33 (sp t n i) 1567 i = en t n i := by rw [st_na (by decide), st_na (by decide), r2, if_neg (by omega)]
    have g2 : st (st b 1545 32 (nu t n i)) 1545 33 (sp t n i) 1566 i = sp t n i := by rw [st_na (by decide), st_na (by decide), r1]
    have g3 : st (st b 1545 32 (nu t n i)) 1545 33 (sp t n i) 1545 33 = sp t n i := st_eq _ _ _ _
    have g0 : st (st b 1545 32 (nu t n i)) 1545 33 (sp t n i) 1545 32 = nu t n i := by rw [st_nk (by decide), st_eq]
    have g4 : st (st b 1545 32 (nu t n i)) 1545 33 (sp t n i) 1545 34 = b 1545 34 := by simp (disch := omega) only [w32_o, w64_o, w8_o, st_eq, st_na, st_nk, ck_pos, wp_sd, wp_lv, wp_lm, wp_some, wp_b1, wp_bd, wp_b2, wp_b3, wp_up, wp_map]
    have g5 : st (st b 1545 32 (nu t n i)) 1545 33 (sp t n i) 1545 35 = b 1545 35 := by simp (disch := omega) only [w32_o, w64_o, w8_o, st_eq, st_na, st_nk, ck_pos, wp_sd, wp_lv, wp_lm, wp_some, wp_b1, wp_bd, wp_b2, wp_b3, wp_up, wp_map]
    have s1 : SS t n N a b a (st (st b 1545 32 (nu t n i)) 1545 33 (sp t n i)) i := h.keep ((FM.refl.sto (by decide)).sto (by decide)) (by simp (disch := omega) only [w32_o, w64_o, w8_o, st_eq, st_na, st_nk, ck_pos, wp_sd, wp_lv, wp_lm, wp_some, wp_b1, wp_bd, wp_b2, wp_b3, wp_up, wp_map]) (by simp (disch := omega) only [w32_o, w64_o, w8_o, st_eq, st_na, st_nk, ck_pos, wp_sd, wp_lv, wp_lm, wp_some, wp_b1, wp_bd, wp_b2, wp_b3, wp_up, wp_map])
    rw [g1, g2, g3, h5, h6, w32_o (by omega)]
    have fin : ∀ x y, SS t n N a b x y i → x 10 8 = nu t n i → y 1545 33 = sp t n i → y 1545 32 = nu t n i → y 1545 34 = b 1545 34 → y 1545 35 = b 1545 35 → CP (lv (x 10 8) fun x5 => bd (fX2_take x) fun d6 => some (d6, some x5)) (fX11_takeNumber_75 y) (Ef a b) (fun v x y => SS t n N a b x y (i + 1) ∧ (kd t n i = 2 ∧ v = nu t n i ∧ 0 ≤ v ∧ v ≤ 99999) ∧ y 1545 32 = v ∧ y 1545 33 = sp t n i ∧ y 1545 34 = b 1545 34 ∧ y 1545 35 = b 1545 35) := fun x y s e1 e2 e3 e4 e5 => by
      rw [lv]
      refine CP.tk (s.2.2.2.take lt) fun x' s' => ?_
      unfold fX11_takeNumber_75
      show CP _ (some (nxb y, 1)) _ _
      exact CP.ret ⟨s.trans s', ⟨k, e1, by omega, by omega⟩, by rw [nx_at (by decide), e3, e1], by rw [nx_at (by decide)]; exact e2, by rw [nx_at (by decide)]; exact e4, by rw [nx_at (by decide)]; exact e5⟩
    by_cases q : 5 < en t n i - sp t n i
    · rw [if_pos q, if_neg (by omega)]
      unfold fX2_number_32
      rw [note_X, blame_M, h5]
      rw [bd_s, bd_s]
      exact fin _ _ (s1.bl hr.2.1) (by rw [nt_at (by decide)]; exact h9 k) (by rw [bl_at (by decide)]; exact g3) (by rw [bl_at (by decide)]; exact g0) (by rw [bl_at (by decide)]; exact g4) (by rw [bl_at (by decide)]; exact g5)
    · rw [if_neg q, if_pos (by omega)]
      unfold fX2_number_32
      rw [note_X, nt_1]
      rw [bd_s]
      exact fin _ _ s1 (h9 k) g3 g0 g4 g5
  · rw [if_neg k, if_neg (fun z => k (ms_k.2.2.mp z))]
    exact h.miss
theorem cp_within {t : Int → Int} {n : Int} {N : Nat} {a b : Dt} {i : Nat} (h : RL t n N a b i) {lo hi : Int} : CP (fX2_number_2 a lo hi) (fX11_takeWithin b lo hi) (Ef a b) (fun v x y => SS t n N a b x y (i + 1) ∧ (kd t n i = 2 ∧ v = nu t n i ∧ 0 ≤ v ∧ v ≤ 99999) ∧ y 1545 32 = v ∧ ((lo ≤ v ∧ v ≤ hi) ∨ Bl x (sp t n i)) ∧ y 1545 34 = b 1545 34 ∧ y 1545 35 = b 1545 35) := by
  have hr := h.sp
  unfold fX2_number_2 fX11_takeWithin
  rw [lv, hr.1]
  refine (cp_number h).bx (fun x y e => ?_) (fun v x y q => ?_)
  · rw [if_pos rfl, wp_some]; exact ⟨rfl, e⟩
  · obtain ⟨q1, q2, q3, q4, q5, q6⟩ := q
    rw [if_neg (by decide), q3, q4, in_if, within_if, note_X]
    by_cases z : lo ≤ v ∧ v ≤ hi
    · rw [if_pos z, if_neg (by decide), nt_1]
      exact CP.ret ⟨q1, q2, q3, Or.inl z, q5, q6⟩
    · rw [if_neg z, if_pos rfl, blame_M]
      show CP (some (_, some v)) (some (_, 1)) _ _
      have w := q1.2.2.2.nb hr.2.1
      exact CP.ret ⟨q1.trans w.1, q2, by rw [bl_at (by decide)]; exact q3, Or.inr w.2, by rw [bl_at (by decide)]; exact q5, by rw [bl_at (by decide)]; exact q6⟩
theorem cp_area {t : Int → Int} {n : Int} {N : Nat} {a b : Dt} {i : Nat} (h : RL t n N a b i) {A : Int} (hA : 0 ≤ A ∧ A ≤ 24) (ha : a 3 1 = A) : CP (fX2_area a) (fX11_takeWithin b 0 (A - 1)) (Ef a b) (fun v x y => SS t n N a b x y (i + 1) ∧ (kd t n i = 2 ∧ v = nu t n i ∧ 0 ≤ v ∧ v ≤ 99999) ∧ y 1545 32 = v ∧ ((0 ≤ v ∧ v ≤ A - 1) ∨ Bl x (sp t n i)) ∧ y 1545 34 = b 1545 34 ∧ y 1545 35 = b 1545 35) := by
  have hr := h.sp
  unfold fX2_area fX11_takeWithin
  rw [lv, hr.1]
  refine (cp_number h).bx (fun x y e => ?_) (fun v x y q => ?_)
  · rw [if_pos rfl, wp_some]; exact ⟨rfl, e⟩
  · obtain ⟨q1, q2, q3, q4, q5, q6⟩ := q
    have e1 : fX1_has x v = fX0_within v 0 (A - 1) := by
      unfold fX1_has
      rw [q1.1 3 1 (by omega) (by omega), ha, w32_o (by omega)]
    rw [if_neg (by decide), q3, q4, in_if, e1, within_if, note_X]
    by_cases z : 0 ≤ v ∧ v ≤ A - 1
    · rw [if_pos z, if_neg (by decide), nt_1]
      exact CP.ret ⟨q1, q2, q3, Or.inl z, q5, q6⟩
    · rw [if_neg z, if_pos rfl, blame_M]
      show CP (some (_, some v)) (some (_, 1)) _ _
      have w := q1.2.2.2.nb hr.2.1
      exact CP.ret ⟨q1.trans w.1, q2, by rw [bl_at (by decide)]; exact q3, Or.inr w.2, by rw [bl_at (by decide)]; exact q5, by rw [bl_at (by decide)]; exact q6⟩
theorem cp_sign {t : Int → Int} {n : Int} {N : Nat} {a b : Dt} {i : Nat} (h : RL t n N a b i) {c : Int} (hc : isG c) : CP (fX2_sign a c) (fX11_takeSign b c) (Ef a b) (fun _ x y => SS t n N a b x y (i + 1) ∧ sg t n i = c ∧ ∀ k, 32 ≤ k → y 1545 k = b 1545 k) := by
  have c0 : 0 ≤ c := by unfold isG at hc; omega
  unfold fX2_sign fX11_takeSign
  rw [h.1.isSg c0, h.2.1.isSg hc]
  show CP _ (if _ then _ else _) _ _
  by_cases q : sg t n i = c
  · rw [if_pos q, if_neg (by decide), if_neg (by decide)]
    refine CP.tk (h.take (h.lt_g hc q)) fun x s => ?_
    show CP _ (some (nxb b, 1)) _ _
    exact CP.ret ⟨s, q, fun k k0 => nx_at (by omega)⟩
  · rw [if_neg q, if_pos rfl, if_pos rfl]
    exact h.miss
theorem cp_word {t : Int → Int} {n : Int} {N : Nat} {a b : Dt} {i : Nat} (h : RL t n N a b i) {w s : Int} (hw : 0 ≤ w ∧ w < 55) (hs : s = -(10 + 2 * w)) : CP (fX2_word a w) (fX11_takeWord b s) (Ef a b) (fun _ x y => SS t n N a b x y (i + 1) ∧ wd t n i = w ∧ ∀ k, 32 ≤ k → y 1545 k = b 1545 k) := by
  unfold fX2_word fX11_takeWord
  rw [h.1.isWd hw.1, h.2.1.isWd hw hs]
  show CP _ (if _ then _ else _) _ _
  by_cases q : wd t n i = w
  · rw [if_pos q, if_neg (by decide), if_neg (by decide)]
    refine CP.tk (h.take (h.lt_w hw.1 q)) fun x s => ?_
    show CP _ (some (nxb b, 1)) _ _
    exact CP.ret ⟨s, q, fun k k0 => nx_at (by omega)⟩
  · rw [if_neg q, if_pos rfl, if_pos rfl]
    exact h.miss
/-- M may take a word -/
theorem LM.may {t : Int → Int} {n : Int} {N : Nat} {b : Dt} {i : Nat} (h : LM t n N b i) {w s : Int} (hw : 0 ≤ w ∧ w < 55) (hs : s = -(10 + 2 * w)) : fX11_mayWord b s = some (if wd t n i = w then (nxb b, 1) else (b, 0)) := by
  have hN := h.1.2.2.2.2.2.2
  have hi := h.2.2
  unfold fX11_mayWord fX11_mayWord_20
  rw [h.isWd hw hs]
  show (if _ then _ else _) = _
  by_cases q : wd t n i = w
  · rw [if_pos q, if_neg (by decide), if_pos q, sd_e, ck_pos (Or.inr rfl)]
    rfl
  · rw [if_neg q, if_pos rfl, if_neg q, sd_e, ck_pos (Or.inl rfl), h.2.1, w32_o (by omega), Int.add_zero]
    rw [st_self h.2.1]
