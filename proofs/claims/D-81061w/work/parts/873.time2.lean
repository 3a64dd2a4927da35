/-! LEVEL 3: loops of both readers side by side; times -/
set_option maxRecDepth 100000
theorem wp_turn {σ ρ : Type} {f : σ → Option (σ ⊕ ρ)} {P : ρ → Prop} {s : σ} (h : wp (f s) (fun r => (∃ s', r = .inl s' ∧ wp (loop f s') P) ∨ ∃ z, r = .inr z ∧ P z)) : wp (loop f s) P := by
  obtain ⟨r, e, hr⟩ := h
  rcases hr with ⟨s', rfl, z, e2, p⟩ | ⟨z, rfl, p⟩
  · exact ⟨z, loop_go e e2, p⟩
  · exact ⟨z, loop_end e, p⟩
theorem loop_e {σ ρ : Type} {f : σ → Option (σ ⊕ ρ)} {s : σ} : loop f s = match f s with | none => none | some (.inl s') => loop f s' | some (.inr z) => some z := by
  cases h : f s with
  | none =>
    cases hl : loop f s with
    | none => rfl
    | some r =>
      obtain ⟨n, hn⟩ := loop_iff.mp hl
      cases n with
      | zero => cases hn
      | succ n => simp only [iter, h] at hn; cases hn
  | some x =>
    cases x with
    | inl s' =>
      cases hl : loop f s' with
      | some r => exact (loop_go h hl).trans hl.symm
      | none =>
        cases hl2 : loop f s with
        | none => exact hl.symm
        | some r =>
          obtain ⟨n, hn⟩ := loop_iff.mp hl2
          cases n with
          | zero => cases hn
          | succ n =>
            simp only [iter, h] at hn
            have := loop_iff.mpr ⟨n, hn⟩
            rw [hl] at this
            cases this
    | inr z => exact loop_end h
def CL {σ τ : Type} (A : Option (σ ⊕ (Dt × Option Int))) (B : Option (τ ⊕ (Dt × Int))) (E : Dt → Dt → Prop) (Q : Int → Dt → Dt → Prop) (J : σ → τ → Prop) : Prop := wp A (fun r => wp B (fun q => (∃ s u, r = .inl s ∧ q = .inl u ∧ J s u) ∨ ∃ x y, r = .inr x ∧ q = .inr y ∧ ((x.2 = none ∧ y.2 = 0 ∧ E x.1 y.1) ∨ ∃ v, x.2 = some v ∧ y.2 = 1 ∧ Q v x.1 y.1)))
theorem CP.lp {σ τ : Type} {f : σ → Option (σ ⊕ (Dt × Option Int))} {g : τ → Option (τ ⊕ (Dt × Int))} {E : Dt → Dt → Prop} {Q : Int → Dt → Dt → Prop} (J : Nat → σ → τ → Prop) (h : ∀ m s u, J m s u → CL (f s) (g u) E Q (fun s' u' => ∃ m', m' < m ∧ J m' s' u')) : ∀ {m : Nat} {s : σ} {u : τ}, J m s u → CP (loop f s) (loop g u) E Q := by
  intro m
  induction m using Nat.strongRecOn with
  | _ m ih =>
    intro s u hj
    obtain ⟨r, e1, q, e2, hr⟩ := h m s u hj
    unfold CP
    rw [loop_e (f := f), e1]
    rcases hr with ⟨s', u', rfl, rfl, m', hm, hj'⟩ | ⟨x, y, rfl, rfl, hr⟩
    · have := ih m' hm hj'
      unfold CP at this
      dsimp only
      refine this.mono fun x hx => ?_
      rw [loop_e (f := g), e2]
      exact hx
    · dsimp only
      rw [wp_some, loop_e (f := g), e2]
      exact wp_some.mpr hr
theorem CL.bx {σ τ : Type} {A : Option (Dt × Option Int)} {B : Option (Dt × Int)} {E0 E : Dt → Dt → Prop} {Q0 Q : Int → Dt → Dt → Prop} {J : σ → τ → Prop} {k : Dt → Int → Option (σ ⊕ (Dt × Option Int))} {f : Dt → Int → Option (τ ⊕ (Dt × Int))} (h : CP A B E0 Q0) (he : ∀ x y, E0 x y → wp (f y 0) (fun q => ∃ z, q = .inr (z, 0) ∧ E x z)) (hq : ∀ v x y, Q0 v x y → CL (k x v) (f y 1) E Q J) : CL (bx A (fun d => some (.inr (d, none))) k) (b2 B f) E Q J := by
  obtain ⟨⟨x, o⟩, e1, ⟨y, r⟩, e2, hr⟩ := h
  unfold CL
  rw [e1, e2]
  dsimp only at hr
  rcases hr with ⟨rfl, rfl, hE⟩ | ⟨v, rfl, rfl, hQ⟩
  · refine wp_some.mpr ?_
    rw [wp_b2, wp_some]
    refine (he x y hE).mono fun q hq => ?_
    obtain ⟨z, rfl, hz⟩ := hq
    exact Or.inr ⟨_, _, rfl, rfl, Or.inl ⟨rfl, rfl, hz⟩⟩
  · have := hq v x y hQ
    unfold CL at this
    show wp (k x v) _
    refine this.mono fun x' hx' => ?_
    rw [wp_b2, wp_some]
    exact hx'
theorem CL.tk {σ τ : Type} {A : Option Dt} {k : Dt → Option (σ ⊕ (Dt × Option Int))} {B : Option (τ ⊕ (Dt × Int))} {E : Dt → Dt → Prop} {Q : Int → Dt → Dt → Prop} {J : σ → τ → Prop} {P : Dt → Prop} (h : wp A P) (hk : ∀ x, P x → CL (k x) B E Q J) : CL (bd A k) B E Q J := by
  obtain ⟨x, e, p⟩ := h
  have := hk x p
  unfold CL at this ⊢
  rw [e]
  exact this
theorem CL.go {σ τ : Type} {s : σ} {u : τ} {E : Dt → Dt → Prop} {Q : Int → Dt → Dt → Prop} {J : σ → τ → Prop} (h : J s u) : CL (some (.inl s)) (some (.inl u)) E Q J := wp_some.mpr (wp_some.mpr (Or.inl ⟨s, u, rfl, rfl, h⟩))
theorem CL.ret {σ τ : Type} {x y : Dt} {v : Int} {E : Dt → Dt → Prop} {Q : Int → Dt → Dt → Prop} {J : σ → τ → Prop} (h : Q v x y) : CL (σ := σ) (τ := τ) (up (some (x, some v))) (up (some (y, 1))) E Q J := wp_some.mpr (wp_some.mpr (Or.inr ⟨_, _, rfl, rfl, Or.inr ⟨v, rfl, rfl, h⟩⟩))
/-- the last turn: what is left is done on both sides -/
theorem CL.up {σ τ : Type} {A : Option (Dt × Option Int)} {B : Option (Dt × Int)} {E : Dt → Dt → Prop} {Q : Int → Dt → Dt → Prop} {J : σ → τ → Prop} (h : CP A B E Q) : CL (σ := σ) (τ := τ) (up A) (up B) E Q J := by
  unfold CP at h
  unfold CL
  rw [wp_up]
  refine h.mono fun x hx => ?_
  rw [wp_up]
  exact hx.mono fun y hy => Or.inr ⟨x, y, rfl, rfl, hy⟩
theorem CL.mono {σ τ : Type} {A : Option (σ ⊕ (Dt × Option Int))} {B : Option (τ ⊕ (Dt × Int))} {E E' : Dt → Dt → Prop} {Q Q' : Int → Dt → Dt → Prop} {J J' : σ → τ → Prop} (h : CL A B E Q J) (he : ∀ x y, E x y → E' x y) (hq : ∀ v x y, Q v x y → Q' v x y) (hj : ∀ s u, J s u → J' s u) : CL A B E' Q' J' := by
  refine wp.mono h fun x hx => hx.mono fun y hy => ?_
  rcases hy with ⟨s, u, e1, e2, h⟩ | ⟨x', y', e1, e2, h⟩
  · exact Or.inl ⟨s, u, e1, e2, hj _ _ h⟩
  · refine Or.inr ⟨x', y', e1, e2, ?_⟩
    rcases h with ⟨a, b, c⟩ | ⟨v, a, b, c⟩
    · exact Or.inl ⟨a, b, he _ _ c⟩
    · exact Or.inr ⟨v, a, b, hq _ _ _ c⟩
/-! times -/
/-- what a time leaves; p: where it begins -/
def tmI (t : Int → Int) (n : Int) (N : Nat) (a b : Dt) (i : Nat) (v g : Int) (x y : Dt) (j : Nat) : Prop := i < j ∧ SS t n N a b x y j ∧ y 1545 35 = sp t n i ∧ ((g = 1 ∧ v = y 1545 34 ∧ 0 ≤ v ∧ v ≤ 36524) ∨ (g = 0 ∧ Bl x (sp t n i) ∧ -40000 - 100000 * (j : Int) ≤ v ∧ v ≤ 40000 + 100000 * (j : Int)))
def tmQ (t : Int → Int) (n : Int) (N : Nat) (a b : Dt) (i : Nat) (v : Int) (x y : Dt) : Prop := ∃ j g, tmI t n N a b i v g x y j
theorem cp_time {t : Int → Int} {n : Int} {N : Nat} {a b : Dt} {i : Nat} (h : RL t n N a b i) : CP (fX2_time a) (fX11_takeTime b) (Ef a b) (tmQ t n N a b i) := by
  have hr := h.sp
  have lp : ∀ x y v g j, tmI t n N a b i v g x y j → CP (fX2_time_10 x (sp t n i) v) (fX11_takeTime_36 y g) (Ef a b) (tmQ t n N a b i) := fun x y v g j hI => by
    unfold fX2_time_10 fX11_takeTime_36
    refine CP.lp (fun m s u => ∃ j, (N - j) = m ∧ j ≤ N ∧ tmI t n N a b i s.2 u.2 s.1 u.1 j) (fun m s u hj => ?_) (m := N - j) ⟨j, rfl, hI.2.1.2.2.2.2.1.2.2, hI⟩
    obtain ⟨x, v⟩ := s
    obtain ⟨y, g⟩ := u
    obtain ⟨j, rfl, jN, hI⟩ := hj
    dsimp only at hI
    obtain ⟨i1, i2, i3, i4⟩ := hI
    have hR := i2.2.2.2
    have hs := hR.sp
    unfold fX2_time_10f fX11_takeTime_36f
    dsimp only
    rw [hR.1.isSg (c := 43) (by decide), hR.1.isSg (c := 45) (by decide), hR.2.1.isSg (c := 43) g43, b1_s, hR.2.1.isSg (c := 45) g45, b1_s]
    have body : ∀ s0 : Int, (sg t n j = 43 ∧ s0 = 1 ∨ sg t n j = 45 ∧ s0 = -1) → CL (fX2_time_28 x (sp t n i) v) (fX11_takeTime_54 y g) (Ef a b) (tmQ t n N a b i) (fun s' u' => ∃ m', m' < N - j ∧ ∃ j, N - j = m' ∧ j ≤ N ∧ tmI t n N a b i s'.2 u'.2 s'.1 u'.1 j) := fun s0 h0 => by
      have lt : j < N := by
        rcases h0 with h0 | h0
        · exact hR.lt_g g43 h0.1
        · exact hR.lt_g g45 h0.1
      unfold fX2_time_28 fX11_takeTime_54
      rw [hR.1.isSg (c := 43) (by decide), hR.2.1.isSg (c := 43) g43, b1_s, lv_e]
      have e54 : (if (if sg t n j = 43 then (1 : Int) else 0) = 0 then fX11_takeTime_68 y g (-1) else fX11_takeTime_68 y g 1) = fX11_takeTime_68 y g s0 := by
        rcases h0 with h0 | h0
        · rw [if_pos h0.1, one_if, h0.2]
        · rw [if_neg (show ¬ sg t n j = 43 by omega), zer_if, h0.2]
      rw [e54]
      refine CL.tk (hR.take lt) fun x1 s1 => ?_
      unfold fX11_takeTime_68
      rw [sd_e]
      show CL _ (b2 (fX11_takeNumber (nxb y)) _) _ _ _
      have S1 := i2.trans s1
      refine CL.bx (cp_number S1.2.2.2) (fun x' y' e => ?_) (fun v1 x2 y2 q2 => ?_)
      · rw [zer_if, up_s, wp_some]
        exact ⟨_, rfl, Ef.of S1 e⟩
      · rw [one_if, q2.2.2.1]
        have S2 := S1.trans q2.1
        have e34 : y2 1545 34 = y 1545 34 := by rw [q2.2.2.2.2.1, nx_at (by decide)]
        have e35 : y2 1545 35 = sp t n i := by rw [q2.2.2.2.2.2, nx_at (by decide)]; exact i3
        have hv1 := q2.2.1.2.2
        have jN2 : j + 1 + 1 ≤ N := S2.2.2.2.2.1.2.2
        have hs2 := S2.2.2.2.sp
        have eX : (if (if sg t n j = 43 then (1 : Int) else 0) = 0 then fX2_time_58 x2 (sp t n i) v (w32 (-v1)) else fX2_time_58 x2 (sp t n i) v v1) = fX2_time_58 x2 (sp t n i) v (s0 * v1) := by
          rcases h0 with h0 | h0
          · rw [if_pos h0.1, one_if, h0.2, Int.one_mul]
          · rw [if_neg (show ¬ sg t n j = 43 by omega), zer_if, h0.2, w32_o (by omega)]
            congr 1
            omega
        rw [eX]
        have hsv : (s0 * v1 = v1 ∨ s0 * v1 = -v1) := by
          rcases h0 with h0 | h0
          · rw [h0.2]; omega
          · rw [h0.2]; omega
        unfold fX2_time_58
        generalize hz : s0 * v1 = z at *
        rw [w32_o (v := v + z) (by omega), lv_e, note_X, bd_s]
        unfold fX11_takeTime_109
        rcases i4 with ⟨rfl, k1, k2, k3⟩ | ⟨rfl, k2, k3, k4⟩
        · rw [if_neg (by decide), w32_o (v := z) (by omega), e34, ← k1, w32_o (v := v + z) (by omega), sd_e, if_neg (by decide), st_eq, in_if, within_if]
          have S3 : SS t n N a b x2 (st y2 1545 34 (v + z)) (j + 1 + 1) := S2.trans (S2.2.2.2.keep (FM.refl.sto (by decide)) (by simp (disch := omega) only [w32_o, w64_o, w8_o, st_eq, st_na, st_nk, ck_pos, wp_sd, wp_lv, wp_lm, wp_some, wp_b1, wp_bd, wp_b2, wp_b3, wp_up, wp_map]) (by simp (disch := omega) only [w32_o, w64_o, w8_o, st_eq, st_na, st_nk, ck_pos, wp_sd, wp_lv, wp_lm, wp_some, wp_b1, wp_bd, wp_b2, wp_b3, wp_up, wp_map]))
          by_cases r : 0 ≤ v + z ∧ v + z ≤ 36524
          · rw [if_pos r, if_neg (by decide), nt_1]
            have hT : tmI t n N a b i (v + z) 1 x2 (st y2 1545 34 (v + z)) (j + 1 + 1) := ⟨by omega, S3, by rw [st_nk (by decide), e35], Or.inl ⟨rfl, (st_eq _ _ _ _).symm, r⟩⟩
            exact CL.go ⟨N - (j + 1 + 1), by omega, j + 1 + 1, rfl, jN2, hT⟩
          · rw [if_neg r, if_pos rfl, st_nk (by decide), e35, blame_M, bd_s]
            have nb := S3.2.2.2.nb hr.2.1
            have hT : tmI t n N a b i (v + z) 0 (nt x2 0 (sp t n i)) (bl (st y2 1545 34 (v + z)) (sp t n i)) (j + 1 + 1) := ⟨by omega, S3.trans nb.1, by rw [bl_at (by decide), st_nk (by decide), e35], Or.inr ⟨rfl, nb.2, by omega, by omega⟩⟩
            exact CL.go ⟨N - (j + 1 + 1), by omega, j + 1 + 1, rfl, jN2, hT⟩
        · rw [if_pos rfl, sd_e, if_pos rfl, nt_bl (k2.mono (s1.2.2.1.trans q2.1.2.2.1) (Int.le_refl _))]
          have S3 : SS t n N a b x2 (st y2 1545 34 (-2147483648)) (j + 1 + 1) := S2.trans (S2.2.2.2.keep (FM.refl.sto (by decide)) (by simp (disch := omega) only [w32_o, w64_o, w8_o, st_eq, st_na, st_nk, ck_pos, wp_sd, wp_lv, wp_lm, wp_some, wp_b1, wp_bd, wp_b2, wp_b3, wp_up, wp_map]) (by simp (disch := omega) only [w32_o, w64_o, w8_o, st_eq, st_na, st_nk, ck_pos, wp_sd, wp_lv, wp_lm, wp_some, wp_b1, wp_bd, wp_b2, wp_b3, wp_up, wp_map]))
          have hT : tmI t n N a b i (v + z) 0 x2 (st y2 1545 34 (-2147483648)) (j + 1 + 1) := ⟨by omega, S3, by rw [st_nk (by decide), e35], Or.inr ⟨rfl, k2.mono (s1.2.2.1.trans q2.1.2.2.1) (Int.le_refl _), by omega, by omega⟩⟩
          exact CL.go ⟨N - (j + 1 + 1), by omega, j + 1 + 1, rfl, jN2, hT⟩
    by_cases c1 : sg t n j = 43
    · rw [if_pos c1, if_neg (by decide), if_neg (by decide)]
      exact body 1 (Or.inl ⟨c1, rfl⟩)
    · rw [if_neg c1, if_pos rfl, if_pos rfl]
      by_cases c2 : sg t n j = 45
      · rw [if_pos c2, if_neg (by decide), if_neg (by decide)]
        exact body (-1) (Or.inr ⟨c2, rfl⟩)
      · rw [if_neg c2, if_pos rfl, if_pos rfl]
        exact CL.ret ⟨j, g, i1, i2, i3, i4⟩
  unfold fX2_time fX11_takeTime
  rw [lv_e, hr.1, date_C, hr.1]
  show CP (bx (bx _ th _) th _) _ _ _
  rw [bx_bx]
  refine (cp_dtC h).bx (fun x' y' e => ?_) (fun v x y q => ?_)
  · rw [zer_if, wp_some]; exact ⟨rfl, e⟩
  · obtain ⟨j, q1, q2, q3, q4⟩ := q
    rw [one_if]
    unfold fX2_date_82 fX2_date_93 fX11_takeTime_23
    rw [note_X, note_X, nt_1, bd_s, bd_s, max_if]
    rcases q4 with ⟨z1, z2⟩ | ⟨z1, z2⟩
    · rw [if_pos z1, if_pos z2, zer_if, bx_s, q3, blame_M, bd_s]
      have nb := q2.2.2.2.nb hr.2.1
      exact lp _ _ _ 0 j ⟨q1, q2.trans nb.1, by rw [bl_at (by decide)]; exact q3, Or.inr ⟨rfl, nb.2, by split <;> omega, by split <;> omega⟩⟩
    · rw [if_neg (show ¬ v = -1 by omega), if_neg (show ¬ y 1545 34 = -2147483648 by omega), one_if, bx_s]
      rw [show (if v ≤ 0 then 0 else v) = v by split <;> omega]
      exact lp _ _ _ 1 j ⟨q1, q2, q3, Or.inl ⟨rfl, z1, z2⟩⟩
