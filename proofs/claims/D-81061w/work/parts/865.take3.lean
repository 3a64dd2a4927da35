/-! LEVEL 3: take -/
set_option maxRecDepth 100000
theorem st_cm {d : Dt} {a k b j u v : Int} (h : ¬ (a = b ∧ k = j)) : st (st d a k u) b j v = st (st d b j v) a k u := funext fun x => funext fun y => by
  unfold st
  by_cases z : x = b ∧ y = j
  · rw [if_pos z, if_neg (fun w => h ⟨w.1.symm.trans z.1, w.2.symm.trans z.2⟩), if_pos z]
  · rw [if_neg z, if_neg z]
/-- the kind of the sign that begins at a -/
def sgK (t : Int → Int) (n a : Int) : Int := if a = n then 0 else if isLe t a = true then 1 else if isDi t a = true then 2 else 3
/-- where it ends -/
def sgE (t : Int → Int) (n a : Int) : Int := if sgK t n a = 1 then ru (isLe t) n a else if sgK t n a = 2 then ru (isDi t) n a else if sgK t n a = 3 then a + 1 else a
/-- the sign that begins at a is at hand -/
def tkQ (d : Dt) (a : Int) (q : Dt) : Prop := (∀ x y, ¬ (x = 10 ∧ (y = 5 ∨ y = 6 ∨ y = 7 ∨ y = 8)) → q x y = d x y) ∧ q 10 5 = a ∧ q 10 6 = sgE (d 2) (d 10 4) a ∧ q 10 7 = sgK (d 2) (d 10 4) a ∧ (sgK (d 2) (d 10 4) a = 1 → woV (d 2) a (sgE (d 2) (d 10 4) a) (q 10 8)) ∧ (sgK (d 2) (d 10 4) a = 2 → q 10 8 = nuV (d 2) a (sgE (d 2) (d 10 4) a)) ∧ (sgK (d 2) (d 10 4) a = 3 → q 10 8 = d 2 a)
theorem take_115 {d : Dt} (hw : Wo d) (h : 0 ≤ d 10 5 ∧ d 10 5 ≤ d 10 4 ∧ d 10 4 ≤ 4000) : wp (fX2_take_115 (st d 10 6 (d 10 5)) (sgK (d 2) (d 10 4) (d 10 5))) (tkQ d (d 10 5)) := by
  unfold fX2_take_115
  rw [wp_sd, st_cm (by decide)]
  generalize hK : sgK (d 2) (d 10 4) (d 10 5) = K
  have D2 : st d 10 7 K 2 = d 2 := st_row (by decide)
  have D4 : st d 10 7 K 10 4 = d 10 4 := st_nk (by decide)
  have D7 : st d 10 7 K 10 7 = K := st_eq _ _ _ _
  have last : ∀ e, d 10 5 ≤ e → e ≤ d 10 4 → (K = 2 → ∀ k, d 10 5 ≤ k → k < e → isDi (d 2) k = true) → (K = 3 → d 10 5 < 4000) → (sgE (d 2) (d 10 4) (d 10 5) = if K = 3 then e + 1 else e) → wp (fX2_take_182 (st (st d 10 7 K) 10 6 e)) (tkQ d (d 10 5)) := fun e e0 e1 e2 e3 e4 => by
    have g2 : st (st d 10 7 K) 10 6 e 2 = d 2 := by rw [st_row (by decide), D2]
    have g5 : st (st d 10 7 K) 10 6 e 10 5 = d 10 5 := by rw [st_nk (by decide), st_nk (by decide)]
    have g6 : st (st d 10 7 K) 10 6 e 10 6 = e := st_eq _ _ _ _
    have g7 : st (st d 10 7 K) 10 6 e 10 7 = K := by rw [st_nk (by decide), st_eq]
    have gw : Wo (st (st d 10 7 K) 10 6 e) := fun k k0 k1 => by rw [st_na (by decide), st_na (by decide)]; exact hw k k0 k1
    have t := take_182 gw (by rw [g5, g6]; omega) (by rw [g7, g5, g6, g2]; exact e2) (by rw [g7, g5]; exact e3)
    rw [g7, g5, g6, g2] at t
    refine t.mono fun q hq => ?_
    obtain ⟨q1, q2, q3, q4, q5⟩ := hq
    have o : ∀ x y, ¬ (x = 10 ∧ (y = 6 ∨ y = 8)) → ¬ (x = 10 ∧ y = 7) → q x y = d x y := fun x y u v => by
      rw [q1 x y u]
      unfold st
      rw [if_neg (fun z => u ⟨z.1, Or.inl z.2⟩), if_neg v]
    unfold tkQ
    rw [hK, e4]
    refine ⟨fun x y u => o x y (by omega) (by omega), o 10 5 (by decide) (by decide), ?_, by rw [q1 10 7 (by decide), g7], fun z => ?_, fun z => ?_, fun z => (q5 z).2⟩
    · by_cases z : K = 3
      · rw [if_pos z]; exact (q5 z).1
      · rw [if_neg z]; exact q2 z
    · rw [if_neg (by omega)]; exact q3 z
    · rw [if_neg (by omega)]; exact q4 z
  unfold sgE at last
  rw [hK] at last
  by_cases k1 : K = 1
  · subst k1
    have r := ru_in (p := isLe (d 2)) h.2.1
    refine take_118_1 (by rw [D4]; exact h) D7 ?_
    rw [D2, D4]
    exact last _ r.1 r.2.1 (fun z => by omega) (fun z => by omega) (by simp)
  · refine take_118_n (by rw [st_nk (by decide), D7]; exact k1) ?_
    by_cases k2 : K = 2
    · subst k2
      have r := ru_in (p := isDi (d 2)) h.2.1
      refine take_150_2 (by rw [D4]; exact h) D7 ?_
      rw [D2, D4]
      exact last _ r.1 r.2.1 (fun _ => r.2.2) (fun z => by omega) (by simp)
    · refine take_150_n (by rw [st_nk (by decide), D7]; exact k2) ?_
      refine last _ (Int.le_refl _) h.2.1 (fun z => absurd z k2) (fun z => ?_) (by rw [if_neg k1, if_neg k2])
      rcases Int.lt_or_le (d 10 5) 4000 with w | w
      · exact w
      · exfalso
        rw [z] at hK
        unfold sgK at hK
        rw [if_pos (by omega)] at hK
        exact absurd hK (by decide)
theorem take_60 {d : Dt} (hw : Wo d) (h : 0 ≤ d 10 5 ∧ d 10 5 ≤ d 10 4 ∧ d 10 4 ≤ 4000) : wp (fX2_take_60 d) (tkQ d (d 10 5)) := by
  have t := take_115 hw h
  have e5 : st d 10 6 (d 10 5) 10 5 = d 10 5 := st_nk (by decide)
  have e4 : st d 10 6 (d 10 5) 10 4 = d 10 4 := st_nk (by decide)
  have e2 : st d 10 6 (d 10 5) 2 = d 2 := st_row (by decide)
  unfold fX2_take_60
  rw [wp_sd, e5, e4]
  unfold sgK at t
  by_cases q : d 10 5 = d 10 4
  · rw [if_pos q]
    rw [if_pos q] at t
    exact t
  · rw [if_neg q, wp_b1]
    rw [if_neg q] at t
    refine (isLetter_X h.1 (by rw [e4]; exact h.2.2)).mono fun r hr => ?_
    rw [e4, e2] at hr
    by_cases r1 : isLe (d 2) (d 10 5) = true
    · rw [if_pos ⟨by omega, r1⟩] at hr
      rw [if_pos r1] at t
      rw [if_neg (by omega)]
      exact t
    · rw [if_neg (fun z => r1 z.2)] at hr
      rw [if_neg r1] at t
      rw [if_pos hr, wp_b1]
      refine (isDigit_X h.1 (by rw [e4]; exact h.2.2)).mono fun s hs => ?_
      rw [e4, e2] at hs
      by_cases r2 : isDi (d 2) (d 10 5) = true
      · rw [if_pos ⟨by omega, r2⟩] at hs
        rw [if_pos r2] at t
        rw [if_neg (by omega)]
        exact t
      · rw [if_neg (fun z => r2 z.2)] at hs
        rw [if_neg r2] at t
        rw [if_pos hs]
        exact t
/-- what a loop's turn owes -/
def LQ {σ ρ : Type} (I : Nat → σ → Prop) (P : ρ → Prop) (n : Nat) (r : σ ⊕ ρ) : Prop := (∃ s', r = .inl s' ∧ ∃ n', n' < n ∧ I n' s') ∨ ∃ z, r = .inr z ∧ P z
theorem wp_lp {σ ρ : Type} {f : σ → Option (σ ⊕ ρ)} {P : ρ → Prop} (I : Nat → σ → Prop) (h : ∀ n s, I n s → wp (f s) (LQ I P n)) {n : Nat} {s : σ} (h0 : I n s) : wp (loop f s) P := by
  refine wp_loop I (fun n s hs => (h n s hs).mono fun r hr => ?_) h0
  rcases hr with ⟨s', rfl, q⟩ | ⟨z, rfl, q⟩
  · exact q
  · exact q
theorem LQ.go {σ ρ : Type} {I : Nat → σ → Prop} {P : ρ → Prop} {n n' : Nat} {s : σ} (h : n' < n) (q : I n' s) : LQ I P n (.inl s) := Or.inl ⟨s, rfl, n', h, q⟩
theorem LQ.out {σ ρ : Type} {I : Nat → σ → Prop} {P : ρ → Prop} {n : Nat} {z : ρ} (q : P z) : LQ I P n (.inr z) := Or.inr ⟨z, rfl, q⟩
/-- the next sign is taken -/
theorem take_X {d : Dt} (hw : Wo d) (h : 0 ≤ d 10 6 ∧ d 10 6 ≤ d 10 4 ∧ d 10 4 ≤ 4000) : wp (fX2_take d) (tkQ d (ru (isSp (d 2)) (d 10 4) (d 10 6))) := by
  unfold fX2_take fX2_take_8
  rw [wp_sd]
  let I : Nat → Dt → Prop := fun n s => ∃ j, s = st d 10 5 j ∧ (d 10 4 - j).toNat = n ∧ (0 ≤ j ∧ j ≤ d 10 4) ∧ ru (isSp (d 2)) (d 10 4) j = ru (isSp (d 2)) (d 10 4) (d 10 6)
  refine wp_lp I (n := (d 10 4 - d 10 6).toNat) (fun n s hs => ?_) ⟨d 10 6, rfl, rfl, ⟨h.1, h.2.1⟩, rfl⟩
  obtain ⟨j, rfl, j1, j2, j3⟩ := hs
  have e4 : st d 10 5 j 10 4 = d 10 4 := st_nk (by decide)
  have e2 : ∀ k, st d 10 5 j 2 k = d 2 k := fun k => st_na (by decide)
  have e5 : st d 10 5 j 10 5 = j := st_eq _ _ _ _
  have out : ¬ (j < d 10 4 ∧ isSp (d 2) j = true) → wp (up (fX2_take_60 (st d 10 5 j)) : Option (Dt ⊕ Dt)) (LQ I (tkQ d (ru (isSp (d 2)) (d 10 4) (d 10 6))) n) := fun q => by
    rw [wp_up]
    have t := take_60 (d := st d 10 5 j) (fun k k0 k1 => by rw [st_na (by decide)]; exact hw k k0 k1) (by rw [e5, e4]; omega)
    rw [e5] at t
    refine t.mono fun z hz => ?_
    refine LQ.out ?_
    rw [← j3, ru_no q]
    obtain ⟨a, b⟩ := hz
    rw [e4, show st d 10 5 j 2 = d 2 from funext e2] at b
    refine ⟨fun x y u => ?_, b⟩
    rw [a x y u]
    unfold st
    rw [if_neg (fun w => u ⟨w.1, Or.inl w.2⟩)]
  have go : j < d 10 4 → isSp (d 2) j = true → wp (fX2_take_47 (st d 10 5 j)) (LQ I (tkQ d (ru (isSp (d 2)) (d 10 4) (d 10 6))) n) := fun q1 q2 => by
    unfold fX2_take_47
    rw [wp_sd, wp_some, e5, w32_of (show (-2147483648 : Int) ≤ j + 1 by omega) (show j + 1 ≤ (2147483647 : Int) by omega), st_st]
    exact LQ.go (n' := (d 10 4 - (j + 1)).toNat) (by omega) ⟨j + 1, rfl, rfl, by omega, by rw [← j3, ru_go q1 q2]⟩
  unfold fX2_take_8f
  dsimp only
  rw [e4, e5]
  by_cases q : d 10 4 ≤ j
  · rw [if_pos q]; exact out (by omega)
  · rw [if_neg q, wp_lv, wp_ck, e2]
    refine ⟨by omega, ?_⟩
    by_cases r1 : d 2 j = 32
    · rw [if_pos r1]; exact go (by omega) (decide_eq_true (Or.inl r1))
    · rw [if_neg r1, wp_lv, wp_ck, e2]
      refine ⟨by omega, ?_⟩
      by_cases r2 : d 2 j = 10
      · rw [if_pos r2]; exact go (by omega) (decide_eq_true (Or.inr r2))
      · rw [if_neg r2]
        refine out fun z => ?_
        have := of_decide_eq_true z.2
        omega
