/-! LEVEL 3: M cuts a text into signs -/
set_option maxRecDepth 100000
theorem in_if {a b c : Int} : fX11_in a b c = if b ≤ a ∧ a ≤ c then 1 else 0 := by
  by_cases h : b ≤ a ∧ a ≤ c
  · rw [if_pos h]
    have : ¬ fX11_in a b c = 0 := fun q => in_1.mp q h
    unfold fX11_in at this ⊢
    simp only [jCmp_lt, jCmp_gt] at this ⊢
    split <;> (try split) <;> (try rfl) <;> omega
  · rw [if_neg h]; exact in_1.mpr h
theorem within_if {a b c : Int} : fX0_within a b c = if b ≤ a ∧ a ≤ c then 1 else 0 := by
  by_cases h : b ≤ a ∧ a ≤ c
  · rw [if_pos h]
    unfold fX0_within
    rw [if_neg (by omega), if_neg (by omega)]
  · rw [if_neg h]; exact within_1.mpr h
theorem min_if {a b : Int} : fJ9_min a b = if a ≤ b then a else b := by
  unfold fJ9_min
  by_cases h : a ≤ b
  · rw [if_neg (by omega), if_pos h]
  · rw [if_pos (by omega), if_neg h]
theorem max_if {a b : Int} : fJ9_max a b = if b ≤ a then a else b := by
  unfold fJ9_max
  by_cases h : b ≤ a
  · rw [if_neg (by omega), if_pos h]
  · rw [if_pos (by omega), if_neg h]
/-- the text as M sees it -/
def MT (t : Int → Int) (n : Int) (d : Dt) : Prop := (∀ k, 0 ≤ k → k < n → d 1546 k = t k) ∧ d 1545 28 = n ∧ (0 ≤ n ∧ n ≤ 4000)
theorem textAt_M {t : Int → Int} {n : Int} {d : Dt} (h : MT t n d) {k : Int} (hk : 0 ≤ k) : fX11_textAt d k = some (if k < n then t k else 0) := by
  obtain ⟨h1, h2, h3⟩ := h
  unfold fX11_textAt
  rw [h2]
  by_cases q : n ≤ k
  · rw [if_pos q, if_neg (by omega)]
  · rw [if_neg q, ck_pos (by omega), h1 k hk (by omega), if_pos (by omega)]
/-- but for row j of the signs -/
def FJ (j : Int) (d y : Dt) : Prop := ∀ p q, ¬ ((p = 1565 ∨ p = 1566 ∨ p = 1567 ∨ p = 1568) ∧ q = j) → y p q = d p q
theorem cut_306 {d : Dt} {j e : Int} (h : 0 ≤ j ∧ j < 4002) : wp (fX11_cutSigns_306 d j e) (fun r => ∃ m, r = .inl (st d 1567 j e, j + 1, e, m) ∧ ((m = 0 ∧ (d 1565 j = 0 ∨ d 1565 j = 3)) ∨ (m = 1 ∧ d 1565 j ≠ 0 ∧ d 1565 j ≠ 3))) := by
  unfold fX11_cutSigns_306
  simp (disch := omega) only [w32_o, w64_o, w8_o, st_eq, st_na, st_nk, ck_pos, if_pos, if_neg, wp_sd, wp_lv, wp_lm, wp_some, wp_b1, wp_bd, wp_b2, wp_b3, wp_up, wp_map]
  by_cases q : d 1565 j = 0
  · simp (disch := omega) only [w32_o, w64_o, w8_o, st_eq, st_na, st_nk, ck_pos, if_pos, if_neg, wp_sd, wp_lv, wp_lm, wp_some, wp_b1, wp_bd, wp_b2, wp_b3, wp_up, wp_map]
    exact ⟨0, rfl, Or.inl ⟨rfl, Or.inl q⟩⟩
  · by_cases r : d 1565 j = 3
    · simp (disch := omega) only [w32_o, w64_o, w8_o, st_eq, st_na, st_nk, ck_pos, if_pos, if_neg, wp_sd, wp_lv, wp_lm, wp_some, wp_b1, wp_bd, wp_b2, wp_b3, wp_up, wp_map]
      exact ⟨0, rfl, Or.inl ⟨rfl, Or.inr r⟩⟩
    · simp (disch := omega) only [w32_o, w64_o, w8_o, st_eq, st_na, st_nk, ck_pos, if_pos, if_neg, wp_sd, wp_lv, wp_lm, wp_some, wp_b1, wp_bd, wp_b2, wp_b3, wp_up, wp_map]
      exact ⟨1, rfl, Or.inr ⟨rfl, q, r⟩⟩
def ctQ (t : Int → Int) (n : Int) (d : Dt) (j : Nat) (r : (Dt × Int × Int × Int) ⊕ Dt) : Prop := ∃ y k m, r = .inl (y, (j : Int) + 1, k, m) ∧ MR t n y j ∧ FJ j d y ∧ k = (if kd t n j = 0 then sp t n j + 1 else en t n j) ∧ ((m = 0 ∧ (ms t n j = 0 ∨ ms t n j = 3)) ∨ (m = 1 ∧ ms t n j ≠ 0 ∧ ms t n j ≠ 3))
theorem cut_end {t : Int → Int} {n : Int} {d d4 : Dt} {j : Nat} {e : Int} (hj : (j : Int) < 4002) (h1 : d4 1566 j = sp t n j) (h2 : d4 1565 j = ms t n j) (h3 : kd t n j = 2 → d4 1568 j = nu t n j) (he : e = (if kd t n j = 0 then sp t n j + 1 else en t n j)) (hf : FJ j d d4) : wp (fX11_cutSigns_306 d4 j e) (ctQ t n d j) := by
  refine (cut_306 (by omega)).mono fun r hr => ?_
  obtain ⟨m, rfl, hm⟩ := hr
  rw [h2] at hm
  refine ⟨_, e, m, rfl, ⟨by simp (disch := omega) only [w32_o, w64_o, w8_o, st_eq, st_na, st_nk, ck_pos, if_pos, if_neg, wp_sd, wp_lv, wp_lm, wp_some, wp_b1, wp_bd, wp_b2, wp_b3, wp_up, wp_map]; exact h1, by simp (disch := omega) only [w32_o, w64_o, w8_o, st_eq, st_na, st_nk, ck_pos, if_pos, if_neg, wp_sd, wp_lv, wp_lm, wp_some, wp_b1, wp_bd, wp_b2, wp_b3, wp_up, wp_map]; exact he, by simp (disch := omega) only [w32_o, w64_o, w8_o, st_eq, st_na, st_nk, ck_pos, if_pos, if_neg, wp_sd, wp_lv, wp_lm, wp_some, wp_b1, wp_bd, wp_b2, wp_b3, wp_up, wp_map]; exact h2, fun z => by simp (disch := omega) only [w32_o, w64_o, w8_o, st_eq, st_na, st_nk, ck_pos, if_pos, if_neg, wp_sd, wp_lv, wp_lm, wp_some, wp_b1, wp_bd, wp_b2, wp_b3, wp_up, wp_map]; exact h3 z⟩, fun p q u => ?_, he, hm⟩
  unfold st
  rw [if_neg (by omega)]
  exact hf p q u
def leI (t : Int → Int) (n : Int) (j : Nat) (N : Nat) (v : Int) : Prop := (n - v).toNat = N ∧ (0 ≤ v ∧ v ≤ n) ∧ ru (isLe t) n v = en t n j
def dgI (t : Int → Int) (n : Int) (j : Nat) (N : Nat) (s : Int × Int) : Prop := (n - s.1).toNat = N ∧ (sp t n j < s.1 ∧ s.1 ≤ n) ∧ ru (isDi t) n s.1 = en t n j ∧ (0 ≤ s.2 ∧ s.2 ≤ 99999) ∧ (∀ k, sp t n j ≤ k → k < s.1 → isDi t k = true) ∧ (s.1 - sp t n j ≤ 5 → s.2 = dgV t (sp t n j) (s.1 - sp t n j).toNat)
theorem cut_155 {t : Int → Int} {n : Int} {d D : Dt} {j : Nat} (h' : MT t n D) (hj : (j : Int) < 4002) (hk : kd t n j = 2) (en1 : en t n j = ru (isDi t) n (sp t n j + 1)) (q2 : 48 ≤ t (sp t n j) ∧ t (sp t n j) ≤ 57) (hl : sp t n j < n) (g' : D 1566 j = sp t n j) (f' : FJ j d D) : wp (fX11_cutSigns_155 D j (sp t n j) (sp t n j + 1) (t (sp t n j) - 48)) (ctQ t n d j) := by
  have p := sp_in (t := t) h'.2.2.1 j
  have hn := h'.2.2
  unfold fX11_cutSigns_155
  refine wp_lp (dgI t n j) (fun N s hv => ?_) ⟨rfl, by dsimp only; omega, en1.symm, by dsimp only; omega, fun k k0 k1 => ?_, fun _ => ?_⟩
  · obtain ⟨v, x⟩ := s
    obtain ⟨v1, v2, v3, v4, v5, v6⟩ := hv
    dsimp only at v1 v2 v3 v4 v5 v6
    unfold fX11_cutSigns_155f
    dsimp only
    rw [textAt_M h' (by omega), wp_b1, wp_some, in_if]
    by_cases z : v < n ∧ isDi t v = true
    · have z2 : 48 ≤ t v ∧ t v ≤ 57 := of_decide_eq_true z.2
      rw [if_pos z.1, if_pos z2, if_neg (by decide), wp_b1, wp_some, wp_lv, wp_lv, wp_some, min_if]
      simp (disch := omega) only [w32_o, w64_o, w8_o, st_eq, st_na, st_nk, ck_pos, wp_sd, wp_lv, wp_lm, wp_some, wp_b1, wp_bd, wp_b2, wp_b3, wp_up, wp_map]
      refine LQ.go (n' := (n - (v + 1)).toNat) (by omega) ⟨rfl, by dsimp only; omega, by rw [← v3, ru_go z.1 z.2], ?_, fun k k0 k1 => ?_, fun w => ?_⟩
      · dsimp only
        split <;> omega
      · dsimp only at k1
        by_cases y : k = v
        · subst y; exact z.2
        · exact v5 k k0 (by omega)
      · dsimp only at w ⊢
        have x6 := v6 (by omega)
        rw [show (v + 1 - sp t n j).toNat = (v - sp t n j).toNat + 1 by omega]
        simp only [dgV]
        rw [← x6, show sp t n j + ((v - sp t n j).toNat : Int) = v by omega]
        have b := dgV_in (t := t) (a := sp t n j) (v - sp t n j).toNat (fun k k0 k1 => v5 _ (by omega) (by omega))
        have b2 := (show ∀ n : Nat, n < 5 → (10 : Int) ^ n ≤ 10000 by decide) (v - sp t n j).toNat (by omega)
        split <;> omega
    · rw [if_neg (c := 48 ≤ _ ∧ _) (fun w => z (by
        by_cases l : v < n
        · rw [if_pos l] at w; exact ⟨l, decide_eq_true w⟩
        · rw [if_neg l] at w; omega)), if_pos rfl]
      rw [ru_no z] at v3
      simp (disch := omega) only [w32_o, w64_o, w8_o, st_eq, st_na, st_nk, ck_pos, wp_sd, wp_lv, wp_lm, wp_some, wp_b1, wp_bd, wp_b2, wp_b3, wp_up, wp_map]
      have fin : ∀ y, y = nu t n j → wp (fX11_cutSigns_229 (st D 1565 j 2) j v j y) (ctQ t n d j) := fun y hy => by
        unfold fX11_cutSigns_229
        simp (disch := omega) only [w32_o, w64_o, w8_o, st_eq, st_na, st_nk, ck_pos, wp_sd, wp_lv, wp_lm, wp_some, wp_b1, wp_bd, wp_b2, wp_b3, wp_up, wp_map]
        refine cut_end hj (by simp (disch := omega) only [w32_o, w64_o, w8_o, st_eq, st_na, st_nk, ck_pos, wp_sd, wp_lv, wp_lm, wp_some, wp_b1, wp_bd, wp_b2, wp_b3, wp_up, wp_map]; exact g') (by simp (disch := omega) only [w32_o, w64_o, w8_o, st_eq, st_na, st_nk, ck_pos, wp_sd, wp_lv, wp_lm, wp_some, wp_b1, wp_bd, wp_b2, wp_b3, wp_up, wp_map]; exact (ms_k.2.2.mpr hk).symm) (fun z => by simp (disch := omega) only [w32_o, w64_o, w8_o, st_eq, st_na, st_nk, ck_pos, wp_sd, wp_lv, wp_lm, wp_some, wp_b1, wp_bd, wp_b2, wp_b3, wp_up, wp_map]; exact hy) (by rw [if_neg (by omega), v3]) (fun p q u => ?_)
        unfold st
        rw [if_neg (by omega), if_neg (by omega)]
        exact f' p q u
      by_cases y : v - sp t n j ≤ 5
      · rw [if_pos y]
        exact (fin x (by unfold nu nuV; rw [← v3, if_pos y]; exact v6 y)).mono fun r hr => LQ.out hr
      · rw [if_neg y]
        exact (fin _ (by unfold nu nuV; rw [← v3, if_neg y])).mono fun r hr => LQ.out hr
  · dsimp only at k1
    rw [show k = sp t n j by omega]; exact decide_eq_true q2
  · dsimp only
    rw [show (sp t n j + 1 - sp t n j).toNat = 0 + 1 by omega]
    simp only [dgV]
    rw [show sp t n j + ((0 : Nat) : Int) = sp t n j by omega]
    omega
theorem cut_46 {t : Int → Int} {n : Int} {d : Dt} {j : Nat} (h : MT t n d) (hj : (j : Int) < 4002) : wp (fX11_cutSigns_46 d j (sp t n j)) (ctQ t n d j) := by
  have p := sp_in (t := t) h.2.2.1 j
  have e := en_in (t := t) h.2.2.1 j
  have hn := h.2.2
  have h' : MT t n (st d 1566 j (sp t n j)) := ⟨fun k k0 k1 => by simp (disch := omega) only [w32_o, w64_o, w8_o, st_eq, st_na, st_nk, ck_pos, if_pos, if_neg, wp_sd, wp_lv, wp_lm, wp_some, wp_b1, wp_bd, wp_b2, wp_b3, wp_up, wp_map]; exact h.1 k k0 k1, by simp (disch := omega) only [w32_o, w64_o, w8_o, st_eq, st_na, st_nk, ck_pos, if_pos, if_neg, wp_sd, wp_lv, wp_lm, wp_some, wp_b1, wp_bd, wp_b2, wp_b3, wp_up, wp_map]; exact h.2.1, h.2.2⟩
  have f' : FJ j d (st d 1566 j (sp t n j)) := fun p q u => by unfold st; rw [if_neg (by omega)]
  have g' : st d 1566 j (sp t n j) 1566 j = sp t n j := st_eq _ _ _ _
  unfold fX11_cutSigns_46
  rw [ck_pos (by omega), wp_sd, wp_b1]
  generalize st d 1566 j (sp t n j) = D at *
  rw [textAt_M h' p.1, wp_some, h'.2.1, wp_lv, w32_o (by omega)]
  have kk := sgK_in (t := t) (n := n) (a := sp t n j)
  have k0 : kd t n j = sgK t n (sp t n j) := rfl
  by_cases q0 : sp t n j = n
  · have kz : kd t n j = 0 := by omega
    rw [if_pos q0]
    simp (disch := omega) only [w32_o, w64_o, w8_o, st_eq, st_na, st_nk, ck_pos, if_pos, if_neg, wp_sd, wp_lv, wp_lm, wp_some, wp_b1, wp_bd, wp_b2, wp_b3, wp_up, wp_map]
    refine cut_end hj (by simp (disch := omega) only [w32_o, w64_o, w8_o, st_eq, st_na, st_nk, ck_pos, if_pos, if_neg, wp_sd, wp_lv, wp_lm, wp_some, wp_b1, wp_bd, wp_b2, wp_b3, wp_up, wp_map]; exact g') (by rw [st_eq, (ms_k.1).mpr kz]) (fun z => by omega) (by rw [if_pos kz]) (fun p q u => ?_)
    unfold st
    rw [if_neg (by omega)]
    exact f' p q u
  · rw [if_neg q0, if_pos (show sp t n j < n by omega), in_if, in_if]
    have hk : kd t n j = if isLe t (sp t n j) = true then 1 else if isDi t (sp t n j) = true then 2 else 3 := by rw [k0]; unfold sgK; rw [if_neg q0]
    have ht1 : isLe t (sp t n j) = true ↔ 65 ≤ t (sp t n j) ∧ t (sp t n j) ≤ 90 := decide_eq_true_iff
    have ht2 : isDi t (sp t n j) = true ↔ 48 ≤ t (sp t n j) ∧ t (sp t n j) ≤ 57 := decide_eq_true_iff
    by_cases q1 : 65 ≤ t (sp t n j) ∧ t (sp t n j) ≤ 90
    · rw [if_pos (ht1.mpr q1)] at hk
      rw [if_pos q1, if_neg (by decide)]
      unfold fX11_cutSigns_98
      have en1 : en t n j = ru (isLe t) n (sp t n j + 1) := by
        show sgE t n (sp t n j) = _
        unfold sgE
        rw [if_pos (by omega), ru_go (by omega) (ht1.mpr q1)]
      refine wp_lp (leI t n j) (fun N v hv => ?_) ⟨rfl, by omega, en1.symm⟩
      obtain ⟨v1, v2, v3⟩ := hv
      unfold fX11_cutSigns_98f
      dsimp only
      rw [textAt_M h' v2.1, wp_b1, wp_some, in_if]
      by_cases z : v < n ∧ isLe t v = true
      · have z2 : 65 ≤ t v ∧ t v ≤ 90 := of_decide_eq_true z.2
        rw [if_pos z.1, if_pos z2, if_neg (by decide), wp_lv, wp_some, w32_o (by omega)]
        exact LQ.go (n' := (n - (v + 1)).toNat) (by omega) ⟨rfl, by omega, by rw [← v3, ru_go z.1 z.2]⟩
      · rw [if_neg (c := 65 ≤ _ ∧ _) (fun w => z (by
          by_cases l : v < n
          · rw [if_pos l] at w; exact ⟨l, decide_eq_true w⟩
          · rw [if_neg l] at w; omega)), if_pos rfl]
        rw [ru_no z] at v3
        simp (disch := omega) only [w32_o, w64_o, w8_o, st_eq, st_na, st_nk, ck_pos, if_pos, if_neg, wp_sd, wp_lv, wp_lm, wp_some, wp_b1, wp_bd, wp_b2, wp_b3, wp_up, wp_map]
        refine (cut_end hj (by simp (disch := omega) only [w32_o, w64_o, w8_o, st_eq, st_na, st_nk, ck_pos, if_pos, if_neg, wp_sd, wp_lv, wp_lm, wp_some, wp_b1, wp_bd, wp_b2, wp_b3, wp_up, wp_map]; exact g') (by rw [st_eq, (ms_k.2.1).mpr hk]) (fun z => by omega) (by rw [if_neg (by omega), v3]) (fun p q u => ?_)).mono fun r hr => LQ.out hr
        unfold st
        rw [if_neg (by omega)]
        exact f' p q u
    · rw [if_neg (fun z => q1 (ht1.mp z))] at hk
      rw [if_neg q1, if_pos rfl]
      by_cases q2 : 48 ≤ t (sp t n j) ∧ t (sp t n j) ≤ 57
      · rw [if_pos (ht2.mpr q2)] at hk
        rw [if_pos q2, if_neg (by decide)]
        have en1 : en t n j = ru (isDi t) n (sp t n j + 1) := by
          show sgE t n (sp t n j) = _
          unfold sgE
          rw [if_neg (by omega), if_pos (by omega), ru_go (by omega) (ht2.mpr q2)]
        simp (disch := omega) only [w32_o, w64_o, w8_o, st_eq, st_na, st_nk, ck_pos, if_pos, if_neg, wp_sd, wp_lv, wp_lm, wp_some, wp_b1, wp_bd, wp_b2, wp_b3, wp_up, wp_map]
        exact cut_155 h' hj hk en1 q2 (by omega) g' f'
      · rw [if_neg (fun z => q2 (ht2.mp z))] at hk
        rw [if_neg q2, if_pos rfl]
        have en1 : en t n j = sp t n j + 1 := by
          show sgE t n (sp t n j) = _
          unfold sgE
          rw [if_neg (by omega), if_neg (by omega), if_pos (by omega)]
        have fin : ∀ v, v = ms t n j → wp (fX11_cutSigns_305 D j (sp t n j + 1) j v) (ctQ t n d j) := fun v hv => by
          unfold fX11_cutSigns_305
          simp (disch := omega) only [w32_o, w64_o, w8_o, st_eq, st_na, st_nk, ck_pos, if_pos, if_neg, wp_sd, wp_lv, wp_lm, wp_some, wp_b1, wp_bd, wp_b2, wp_b3, wp_up, wp_map]
          refine cut_end hj (by simp (disch := omega) only [w32_o, w64_o, w8_o, st_eq, st_na, st_nk, ck_pos, if_pos, if_neg, wp_sd, wp_lv, wp_lm, wp_some, wp_b1, wp_bd, wp_b2, wp_b3, wp_up, wp_map]; exact g') (by rw [st_eq]; exact hv) (fun z => by omega) (by rw [if_neg (by omega), en1]) (fun p q u => ?_)
          unfold st
          rw [if_neg (by omega)]
          exact f' p q u
        have sgj : sg t n j = t (sp t n j) := by unfold sg; rw [if_pos hk]
        have y1 : isG (t (sp t n j)) → wp (fX11_cutSigns_287 D j (t (sp t n j)) (sp t n j + 1) 1) (ctQ t n d j) := fun g => by
          unfold fX11_cutSigns_287
          rw [if_neg (by decide)]
          exact fin _ (by rw [← sgj]; exact ((ms_g (c := sg t n j) (by rw [sgj]; exact g)).mpr rfl).symm)
        have y0 : ¬ isG (t (sp t n j)) → wp (fX11_cutSigns_287 D j (t (sp t n j)) (sp t n j + 1) 0) (ctQ t n d j) := fun g => by
          unfold fX11_cutSigns_287
          rw [if_pos rfl]
          refine fin _ ?_
          unfold ms
          rw [if_pos hk, sgj, if_neg g]
        unfold isG at y1 y0
        generalize t (sp t n j) = c at *
        by_cases c1 : c = 40
        · rw [if_pos c1]; exact y1 (by omega)
        · rw [if_neg c1]
          by_cases c2 : c = 41
          · rw [if_pos c2]; exact y1 (by omega)
          · rw [if_neg c2]
            by_cases c3 : c = 44
            · rw [if_pos c3]; exact y1 (by omega)
            · rw [if_neg c3]
              by_cases c4 : c = 59
              · rw [if_pos c4]; exact y1 (by omega)
              · rw [if_neg c4]
                by_cases c5 : c = 43
                · rw [if_pos c5]; exact y1 (by omega)
                · rw [if_neg c5]
                  by_cases c6 : c = 45
                  · rw [if_pos c6]; exact y1 (by omega)
                  · rw [if_neg c6]
                    by_cases c7 : c = 47
                    · rw [if_pos c7]; exact y1 (by omega)
                    · rw [if_neg c7]; exact y0 (by omega)
def spI (t : Int → Int) (n : Int) (j : Nat) (N : Nat) (v : Int) : Prop := (n - v).toNat = N ∧ (0 ≤ v ∧ v ≤ n) ∧ ru (isSp t) n v = sp t n j
theorem cut_10 {t : Int → Int} {n : Int} {d : Dt} {j : Nat} {k : Int} (h : MT t n d) (hj : (j : Int) < 4002) (hk : 0 ≤ k ∧ k ≤ n) (hs : ru (isSp t) n k = sp t n j) : wp (fX11_cutSigns_10 d j k) (ctQ t n d j) := by
  unfold fX11_cutSigns_10
  refine wp_lp (spI t n j) (fun N v hv => ?_) ⟨rfl, hk, hs⟩
  obtain ⟨v1, v2, v3⟩ := hv
  have hn := h.2.2
  unfold fX11_cutSigns_10f
  dsimp only
  rw [h.2.1]
  have out : ¬ (v < n ∧ isSp t v = true) → wp (up (fX11_cutSigns_46 d j v) : Option (Int ⊕ _)) (LQ (spI t n j) (ctQ t n d j) N) := fun z => by
    rw [ru_no z] at v3
    rw [wp_up, v3]
    exact (cut_46 h hj).mono fun r hr => LQ.out hr
  have go : v < n → isSp t v = true → wp (lv (w32 (v + 1)) fun x => some (Sum.inl x)) (LQ (spI t n j) (ctQ t n d j) N) := fun q1 q2 => by
    rw [wp_lv, wp_some, w32_o (by omega)]
    exact LQ.go (n' := (n - (v + 1)).toNat) (by omega) ⟨rfl, by omega, by rw [← v3, ru_go q1 q2]⟩
  by_cases q : n ≤ v
  · rw [if_pos q]; exact out (by omega)
  · rw [if_neg q, ck_pos (by omega), h.1 v v2.1 (by omega)]
    by_cases r1 : t v = 32
    · rw [if_pos r1]; exact go (by omega) (decide_eq_true (Or.inl r1))
    · rw [if_neg r1]
      by_cases r2 : t v = 10
      · rw [if_pos r2]; exact go (by omega) (decide_eq_true (Or.inr r2))
      · rw [if_neg r2]
        refine out fun z => ?_
        have := of_decide_eq_true z.2
        omega
/-- but for the rows of signs -/
def FS (b y : Dt) : Prop := ∀ p q, ¬ (1565 ≤ p ∧ p ≤ 1568) → y p q = b p q
def ctI (t : Int → Int) (n : Int) (b : Dt) (M : Nat) (s : Dt × Int × Int × Int) : Prop := ∃ j : Nat, s.2.1 = j ∧ FS b s.1 ∧ (∀ i, i < j → MR t n s.1 i) ∧ ((s.2.2.2 = 1 ∧ M = (n - s.2.2.1).toNat + 1 ∧ (0 ≤ s.2.2.1 ∧ s.2.2.1 ≤ n) ∧ (j : Int) ≤ s.2.2.1 ∧ ru (isSp t) n s.2.2.1 = sp t n j ∧ ∀ i, i < j → ms t n i ≠ 0 ∧ ms t n i ≠ 3) ∨ (s.2.2.2 = 0 ∧ M = 0 ∧ ∃ N, MS t n N s.1))
theorem cut_M {t : Int → Int} {n : Int} {b : Dt} (h : MT t n b) : wp (fX11_cutSigns b) (fun y => FS b y ∧ ∃ N, MS t n N y) := by
  have hn := h.2.2
  unfold fX11_cutSigns fX11_cutSigns_6
  refine wp_lp (ctI t n b) (n := n.toNat + 1) (fun M s hs => ?_) ⟨0, rfl, fun _ _ _ => rfl, fun i hi => absurd hi (by omega), Or.inl ⟨rfl, ?_, by dsimp only; omega, by dsimp only; omega, rfl, fun i hi => absurd hi (by omega)⟩⟩
  · obtain ⟨d, j', k, m⟩ := s
    obtain ⟨j, e1, hf, hr, hc⟩ := hs
    dsimp only at e1 hf hr hc
    subst e1
    unfold fX11_cutSigns_6f
    dsimp only
    rcases hc with ⟨rfl, c2, c3, c4, c5, c6⟩ | ⟨rfl, c2, N, c3⟩
    · rw [if_neg (by decide)]
      have hM : MT t n d := ⟨fun k k0 k1 => by rw [hf _ _ (by omega)]; exact h.1 k k0 k1, by rw [hf _ _ (by omega)]; exact h.2.1, h.2.2⟩
      refine (cut_10 hM (by omega) c3 c5).mono fun r hr2 => ?_
      obtain ⟨y, k', m', rfl, q1, q2, q3, q4⟩ := hr2
      have p := sp_in (t := t) hn.1 j
      have e := en_in (t := t) hn.1 j
      have rk := ru_in (p := isSp t) (n := n) (k := k) (by omega)
      have hMR : ∀ i, i < j + 1 → MR t n y i := fun i hi => by
        by_cases z : i = j
        · subst z; exact q1
        · obtain ⟨a1, a2, a3, a4⟩ := hr i (by omega)
          exact ⟨by rw [q2 _ _ (by omega)]; exact a1, by rw [q2 _ _ (by omega)]; exact a2, by rw [q2 _ _ (by omega)]; exact a3, fun z => by rw [q2 _ _ (by omega)]; exact a4 z⟩
      have hfy : FS b y := fun p q u => by rw [q2 p q (by omega)]; exact hf p q u
      have k0 := sgK_in (t := t) (n := n) (a := sp t n j)
      rcases q4 with ⟨rfl, q5⟩ | ⟨rfl, q5⟩
      · refine LQ.go (n' := 0) (by omega) ⟨j + 1, by show (j : Int) + 1 = ((j + 1 : Nat) : Int); omega, hfy, hMR, Or.inr ⟨rfl, rfl, j, ⟨fun k k0 k1 => (hfy 1546 k (by omega)).trans (h.1 k k0 k1), (hfy 1545 28 (by omega)).trans h.2.1, h.2.2, fun i hi => hMR i (by omega), c6, q5, by omega⟩⟩⟩
      · have kz : kd t n j ≠ 0 := fun z => q5.1 (ms_k.1.mpr z)
        rw [if_neg kz] at q3
        have e2 := e.2.2 kz
        refine LQ.go (n' := (n - k').toNat + 1) (by omega) ⟨j + 1, by show (j : Int) + 1 = ((j + 1 : Nat) : Int); omega, hfy, hMR, Or.inl ⟨rfl, rfl, by dsimp only; omega, by dsimp only; omega, by rw [q3]; rfl, fun i hi => ?_⟩⟩
        by_cases z : i = j
        · subst z; exact q5
        · exact c6 i (by omega)
    · rw [if_pos rfl, wp_up, wp_some]
      exact LQ.out ⟨hf, N, c3⟩
  · dsimp only
    omega
