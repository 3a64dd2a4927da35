/-! LEVEL 3: a law as it is read, on both sides -/
set_option maxRecDepth 100000
set_option maxHeartbeats 4000000
/-- which clauses were told -/
def tb (T w : Int) : Int := bAnd (bShr T w) 1
/-- a condition is the same on both sides -/
def CN (L c W : Int) (x y : Dt) : Prop := (0 ≤ x c 2 ∧ x c 2 ≤ x c 3 ∧ x c 3 ≤ 40) ∧ (0 ≤ x c 1 ∧ x c 1 ≤ 4000) ∧ (0 ≤ y 1570 W ∧ y 1570 W ≤ 4001) ∧ ((x c 1 = 0 ∧ y 1570 W = 0) ∨ (x c 1 ≠ 0 ∧ y 1570 W ≠ 0 ∧ ∀ τ, ∃ p q u v, ev (x c 2) (x c 3) τ (x (c + 1)) (x c 1).toNat = some [(p || q)] ∧ evM (x c 2) (x c 3) τ (fun k => y 1569 (4002 * W + k)) (y 1570 W).toNat = some ([(p, q, u, v)], fsX τ (x (L + 10)) (x c 2) (x c 3 - x c 2).toNat)))
theorem CN.cg {L c W : Int} {x y x' y' : Dt} (h : CN L c W x y) (h1 : ∀ q, 1 ≤ q → q ≤ 3 → x' c q = x c q) (h2 : ∀ q, 0 ≤ q → q < x c 1 → x' (c + 1) q = x (c + 1) q) (h3 : ∀ q, 0 ≤ q → q < x c 3 → x' (L + 10) q = x (L + 10) q) (h4 : y' 1570 W = y 1570 W) (h5 : ∀ q, 0 ≤ q → q < y 1570 W → y' 1569 (4002 * W + q) = y 1569 (4002 * W + q)) : CN L c W x' y' := by
  obtain ⟨a, b, e, g⟩ := h
  unfold CN
  rw [h1 1 (by decide) (by decide), h1 2 (by decide) (by decide), h1 3 (by decide) (by decide), h4]
  refine ⟨a, b, e, ?_⟩
  rcases g with g | ⟨g1, g2, g3⟩
  · exact Or.inl g
  · refine Or.inr ⟨g1, g2, fun τ => ?_⟩
    obtain ⟨p, q, u, v, k1, k2⟩ := g3 τ
    refine ⟨p, q, u, v, ?_, ?_⟩
    · rw [← k1]; exact ev_cg fun k k0 kk => h2 k k0 (by omega)
    · rw [evM_cg (R := fun k => y 1569 (4002 * W + k)) (fun k k0 kk => h5 k k0 (by omega)), k2]
      congr 2
      exact (fsX_cg fun k k0 kk => h3 k (by omega) (by omega)).symm
theorem ev_no {lo hi : Int} {τ : Int → Bool} {R : Int → Int} (h : hi ≤ lo) : ∀ {n : Nat} {V : List Bool}, ev lo hi τ R n = some V → V = [] := by
  intro n
  induction n with
  | zero => intro V e; cases e; rfl
  | succ n ih =>
    intro V e
    simp only [ev] at e
    cases e1 : ev lo hi τ R n with
    | none => rw [e1] at e; cases e
    | some V0 =>
      have := ih e1
      subst this
      rw [e1] at e
      simp only [sX] at e
      by_cases h1 : R n = 4002
      · rw [if_pos h1] at e; cases e
      · rw [if_neg h1] at e
        by_cases h2 : R n = 4000
        · rw [if_pos h2] at e; cases e
        · rw [if_neg h2] at e
          by_cases h3 : R n = 4001
          · rw [if_pos h3] at e; cases e
          · rw [if_neg h3, if_neg (by omega)] at e; cases e
theorem fsX_all {R : Int → Int} {f : Int} (hf : 0 ≤ f) : ∀ n : Nat, 0 < n → fsX (fun k => decide (R k ≠ 0)) R f n = f := by
  intro n
  induction n with
  | zero => intro h; omega
  | succ n ih =>
    intro _
    cases n with
    | zero => simp [fsX]
    | succ n =>
      rw [fsX, ih (by omega), if_pos hf]
section LWS
variable {t : Int → Int} {n : Int} {N : Nat} {a b : Dt} {L c W f A : Int} {i0 : Nat} {x y : Dt} {j : Nat}
/-- a condition that was read is one -/
theorem CJ.cn (h : CJ t n N a b L c W f A i0 SemF x y j [(0, 0)]) (h9 : x 10 9 = -1) : CN L c W x y := by
  obtain ⟨⟨hR, hFX, hFM, hWm, hi⟩, ⟨w, z, E, hX, hb, hsm⟩, hst, ⟨hTR, hf0, hf1⟩, ⟨hc2, hc3, hL'⟩, hTS, hD, hA⟩ := h
  have hNN := hR.2.1.1.2.2.2.2.2.2
  have hjN := hR.2.1.2.2
  obtain ⟨⟨k1, k2, k3, k4⟩, k5, k6, k7⟩ := hX
  have key : ∀ τ, ∃ p q u v, ev (x c 2) (x c 3) τ (x (c + 1)) (x c 1).toNat = some [(p || q)] ∧ evM (x c 2) (x c 3) τ (fun k => y 1569 (4002 * W + k)) (y 1570 W).toNat = some ([(p, q, u, v)], fsX τ (x (L + 10)) (x c 2) (x c 3 - x c 2).toNat) := fun τ => by
    obtain ⟨V, Lv, g1, g2, p, q, u, v, rfl, rfl⟩ := (hsm h9).2 τ
    refine ⟨p, q, u, v, ?_, ?_⟩
    · rw [← g1, ← k6 τ, hc3, k2]
    · rw [hc3, hc2]; exact g2
  have hlt : x c 2 < x c 3 := by
    rcases Int.lt_or_le (x c 2) (x c 3) with q | q
    · exact q
    · obtain ⟨p, q1, u, v, g1, -⟩ := key (fun _ => true)
      have := ev_no q g1
      cases this
  refine ⟨⟨by omega, by omega, by rw [hc3]; exact hTR.1.2⟩, by omega, by omega, Or.inr ⟨fun q => ?_, fun q => ?_, key⟩⟩
  · obtain ⟨p, q1, u, v, g1, -⟩ := key (fun _ => true)
    rw [q] at g1
    cases g1
  · obtain ⟨p, q1, u, v, -, g2⟩ := key (fun k => decide (x (L + 10) k ≠ 0))
    rw [fsX_all (by omega) _ (by omega), q] at g2
    injection g2 with g3
    have := congrArg Prod.snd g3
    dsimp only at this
    omega
/-- both read a condition -/
theorem cp_cond (h : RL t n N a b j) (hL : 15 ≤ L) (hc : L + 2 ≤ c ∧ c ≤ L + 4) (hW : 0 ≤ W ∧ W ≤ 1) (hA : 0 ≤ A ∧ A ≤ 24) (hTR : TR a b) (hL' : a 10 10 = L) (hAA : a 3 1 = A ∧ b 1545 3 = A) (hj : 1 ≤ j) : CP (fX2_condition a c) (fX11_takeCondition b W) (EC c L W (a 10 13) a b) (CQ t n N a b L c W (a 10 13) A j) := by
  unfold fX2_condition fX5_begin fX11_takeCondition
  simp only [sd_e, bd_s]
  rw [ck_pos (by omega)]
  generalize hx : st (st (st (st (st a c 1 0) c 2 (a 10 13)) c 3 (a 10 13)) 10 15 0) 10 16 0 = x
  have ex : ∀ p q, ¬ (p = c ∧ 1 ≤ q ∧ q ≤ 3) → ¬ (p = 10 ∧ 15 ≤ q ∧ q ≤ 16) → x p q = a p q := fun p q u1 u2 => by
    rw [← hx]
    unfold st
    rw [if_neg (by omega), if_neg (by omega), if_neg (by omega), if_neg (by omega), if_neg (by omega)]
  have e1 : x c 1 = 0 := by rw [← hx]; simp (disch := omega) only [w32_o, w64_o, w8_o, st_eq, st_na, st_nk, ck_pos, wp_sd, wp_lv, wp_lm, wp_some, wp_b1, wp_bd, wp_b2, wp_b3, wp_up, wp_map]
  have e2 : x c 2 = a 10 13 := by rw [← hx]; simp (disch := omega) only [w32_o, w64_o, w8_o, st_eq, st_na, st_nk, ck_pos, wp_sd, wp_lv, wp_lm, wp_some, wp_b1, wp_bd, wp_b2, wp_b3, wp_up, wp_map]
  have e3 : x c 3 = a 10 13 := by rw [← hx]; simp (disch := omega) only [w32_o, w64_o, w8_o, st_eq, st_na, st_nk, ck_pos, wp_sd, wp_lv, wp_lm, wp_some, wp_b1, wp_bd, wp_b2, wp_b3, wp_up, wp_map]
  have e15 : x 10 15 = 0 := by rw [← hx]; simp (disch := omega) only [w32_o, w64_o, w8_o, st_eq, st_na, st_nk, ck_pos, wp_sd, wp_lv, wp_lm, wp_some, wp_b1, wp_bd, wp_b2, wp_b3, wp_up, wp_map]
  have e16 : x 10 16 = 0 := by rw [← hx]; simp (disch := omega) only [w32_o, w64_o, w8_o, st_eq, st_na, st_nk, ck_pos, wp_sd, wp_lv, wp_lm, wp_some, wp_b1, wp_bd, wp_b2, wp_b3, wp_up, wp_map]
  have e13 : x 10 13 = a 10 13 := ex _ _ (by omega) (by omega)
  have ey : ∀ p q, ¬ (p = 1570 ∧ q = W) → st b 1570 W 0 p q = b p q := fun p q u => by unfold st; rw [if_neg u]
  have C : CJ t n N a b L c W (a 10 13) A j Sem x (st b 1570 W 0) j [(0, 0)] := by
    refine ⟨⟨h.cg2 (fun p q u => ex _ _ (by omega) (by omega)) (fun p q u => ey _ _ (by omega)), fun p q u1 u2 u3 u4 u5 u6 => ex _ _ u4 (by omega), fun p q u1 u2 u3 u4 u5 => ey _ _ u3, fun q => by rw [ex _ _ (by omega) (by omega)]; exact ⟨q, Int.le_refl _⟩, by omega⟩, ⟨0, 0, fun _ => some [], ⟨⟨e15, e1, by omega, by omega⟩, rfl, fun τ => rfl, ?_⟩, by omega, fun q => ⟨by decide, fun τ => ⟨[], [(false, true, false, false)], rfl, ?_, ?_⟩⟩⟩, ?_, ⟨⟨by rw [e13]; exact hTR.1, ?_⟩, hTR.1.1, by omega⟩, ⟨e2, by rw [e3, e13], by rw [ex _ _ (by omega) (by omega)]; exact hL'⟩, fun q k k0 k1 => ?_, fun q hq => ?_, by rw [ex _ _ (by omega) (by omega)]; exact hAA.1, by rw [ey _ _ (by omega)]; exact hAA.2⟩
    · rw [e16]; rfl
    · rw [st_eq, e13, show (a 10 13 - a 10 13).toNat = 0 by omega]
      rfl
    · exact ⟨false, true, [], [], rfl, ⟨rfl, rfl⟩, by rw [if_pos rfl]; exact ⟨rfl, rfl, rfl⟩⟩
    · rw [st_eq]; omega
    · rw [e13, ey _ _ (by omega), ex 10 9 (by omega) (by omega)]; exact hTR.2
    · omega
    · rcases List.mem_cons.mp hq with r | r
      · rw [r]; decide
      · simp at r
  have := (cond_main (t := t) (n := n) (N := N) (a := a) (b := b) (f := a 10 13) (i0 := j) hL hc hW hA (N - j)).1 x (st b 1570 W 0) j 0 0 [] 0 0 rfl C rfl (by omega) (by omega)
  unfold fX2_condition_22 fX11_takeCondition_9
  rw [loop_kt (f := fX2_condition_22f c)]
  exact this
end LWS
