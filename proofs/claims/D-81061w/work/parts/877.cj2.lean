/-! LEVEL 3: a condition is read: steps -/
set_option maxRecDepth 100000
theorem LM.cg2 {t : Int → Int} {n : Int} {N : Nat} {b y : Dt} {i : Nat} (h : LM t n N b i) (hf : ∀ p q, (p = 1546 ∨ (p = 1545 ∧ 28 ≤ q ∧ q ≤ 29) ∨ (1565 ≤ p ∧ p ≤ 1568)) → y p q = b p q) : LM t n N y i := by
  obtain ⟨⟨h1, h2, h3, h4, h5⟩, h8, h9⟩ := h
  refine ⟨⟨fun k k0 k1 => by rw [hf _ _ (by omega)]; exact h1 k k0 k1, by rw [hf _ _ (by omega)]; exact h2, h3, fun j hj => ?_, h5⟩, by rw [hf _ _ (by omega)]; exact h8, h9⟩
  obtain ⟨r1, r2, r3, r4⟩ := h4 j hj
  exact ⟨by rw [hf _ _ (by omega)]; exact r1, by rw [hf _ _ (by omega)]; exact r2, by rw [hf _ _ (by omega)]; exact r3, fun z => by rw [hf _ _ (by omega)]; exact r4 z⟩
theorem RL.cg2 {t : Int → Int} {n : Int} {N : Nat} {a b x y : Dt} {i : Nat} (h : RL t n N a b i) (hx : ∀ p q, (p = 2 ∨ (p = 10 ∧ 4 ≤ q ∧ q ≤ 9) ∨ p = 14) → x p q = a p q) (hy : ∀ p q, (p = 1546 ∨ (p = 1545 ∧ 28 ≤ q ∧ q ≤ 31) ∨ (1565 ≤ p ∧ p ≤ 1568)) → y p q = b p q) : RL t n N x y i := by
  refine ⟨h.1.cg fun p q u => hx p q (by omega), h.2.1.cg2 fun p q u => hy p q (by omega), ?_⟩
  have w := h.2.2
  unfold Wr at w ⊢
  rw [hx 10 9 (by omega), hy 1545 31 (by omega)]
  exact w
theorem XC.cg {c : Int} {x y : Dt} {K : List Int} {E : (Int → Bool) → Option (List Bool)} {w s : Int} {o : Bool} (h : XC c x K E w s o) (hf : ∀ p q, ((p = 10 ∧ 13 ≤ q ∧ q ≤ 16) ∨ p = 13 ∨ (p = c ∧ 1 ≤ q ∧ q ≤ 2) ∨ p = c + 1) → y p q = x p q) : XC c y K E w s o := by
  obtain ⟨⟨h1, h2, h3, h4⟩, h5, h6, h7⟩ := h
  refine ⟨⟨by rw [hf _ _ (by omega)]; exact h1, by rw [hf _ _ (by omega)]; exact h2, h3, h4⟩, ?_, fun τ => ?_, by rw [hf _ _ (by omega)]; exact h7⟩
  · rw [← h5]; exact rdS_cg fun k _ _ => hf _ _ (by omega)
  · rw [← h6, hf c 2 (by omega), hf 10 13 (by omega)]; exact ev_cg fun k _ _ => hf _ _ (by omega)
theorem TS.cg {L A : Int} {x y x' y' : Dt} {k : Int} (h : TS L A x y k) (hx : ∀ p, L + 6 ≤ p → p ≤ L + 10 → x' p k = x p k) (hy : ∀ p, 1572 ≤ p → p ≤ 1575 → y' p k = y p k) : TS L A x' y' k := by
  unfold TS at h ⊢
  rw [hx _ (by omega) (by omega), hx _ (by omega) (by omega), hx _ (by omega) (by omega), hx _ (by omega) (by omega), hx _ (by omega) (by omega), hy 1572 (by omega) (by omega), hy 1573 (by omega) (by omega), hy 1574 (by omega) (by omega), hy 1575 (by omega) (by omega)]
  exact h
section CJS
variable {t : Int → Int} {n : Int} {N : Nat} {a b : Dt} {L c W f A : Int} {i0 : Nat} {S S' : List (Nat × Nat) → List Bool → List Lvl → Prop} {x y : Dt} {j : Nat} {D : List (Nat × Nat)}
/-- both blame the same place -/
theorem CJ.nb (h : CJ t n N a b L c W f A i0 S x y j D) (hL : 15 ≤ L) (hc : L + 2 ≤ c ∧ c ≤ L + 4) {p : Int} (hp : 0 ≤ p ∧ p ≤ 4000) : CJ t n N a b L c W f A i0 S (nt x 0 p) (bl y p) j D ∧ nt x 0 p 10 9 ≠ -1 := by
  obtain ⟨⟨hR, hFX, hFM, hW, hi⟩, ⟨w, z, E, hX, hb, -⟩, hst, ⟨hTR, hf0, hf1⟩, ⟨hc2, hc3, hL'⟩, -, hD, hA⟩ := h
  obtain ⟨nb1, nb2⟩ := hR.nb hp
  have ex : ∀ p' q, ¬ (p' = 10 ∧ q = 9) → nt x 0 p p' q = x p' q := fun _ _ u => nt_at u
  have ey : ∀ p' q, ¬ (p' = 1545 ∧ q = 31) → bl y p p' q = y p' q := fun _ _ u => bl_at u
  refine ⟨⟨⟨nb1.2.2.2, fun p' q u1 u2 u3 u4 u5 u6 => ?_, fun p' q u1 u2 u3 u4 u5 => ?_, hW.trans nb1.2.2.1, hi⟩, ⟨w, z, E, hX.cg fun p' q u => ex _ _ (by omega), hb, fun q => absurd q nb2.1⟩, ?_, ⟨⟨?_, ?_⟩, hf0, ?_⟩, ⟨?_, ?_, ?_⟩, fun q => absurd q nb2.1, hD, ?_, ?_⟩, nb2.1⟩
  · rw [ex _ _ (by omega)]; exact hFX p' q u1 u2 u3 u4 u5 u6
  · rw [ey _ _ (by omega)]; exact hFM p' q u1 u2 u3 u4 u5
  · rw [ey _ _ (by omega)]; exact hst
  · rw [ex _ _ (by omega)]; exact hTR.1
  · rw [ex _ _ (by omega), ey _ _ (by omega)]
    rcases hTR.2 with q | q
    · exact Or.inl q
    · exact Or.inr ⟨q.1, q.2.1, nb2.1⟩
  · rw [ex _ _ (by omega)]; exact hf1
  · rw [ex _ _ (by omega)]; exact hc2
  · rw [ex _ _ (by omega), ex _ _ (by omega)]; exact hc3
  · rw [ex _ _ (by omega)]; exact hL'
  · rw [ex _ _ (by omega)]; exact hA.1
  · rw [ey _ _ (by omega)]; exact hA.2
/-- X works on its stack, M adds a step, both go one sign ahead -/
theorem CJ.step (h : CJ t n N a b L c W f A i0 S x y j D) (hL : 15 ≤ L) (hc : L + 2 ≤ c ∧ c ≤ L + 4) (hlt : j < N) {x' : Dt} {D' : List (Nat × Nat)} {E' : (Int → Bool) → Option (List Bool)} {w' z' v : Int} (hf : FQ c x x') (hx : XC c x' (flat D') E' w' z' (par D')) (hb' : w' + z' ≤ (j : Int)) (hD' : ∀ q ∈ D', q.2 ≤ 3) (hsem : x 10 9 = -1 → D.length ≤ 31 → D'.length ≤ 31) (hS : ∀ E w z, XC c x (flat D) E w z (par D) → ∀ τ V Lv g, D'.length ≤ 31 → E τ = some V → S D V Lv → ∃ V' Lv', E' τ = some V' ∧ sM f (x 10 13) τ v (some (Lv, g)) = some (Lv', g) ∧ S' D' V' Lv') : wp (fX2_take x') (fun x'' => CJ t n N a b L c W f A i0 S' x'' (nxb (aS y W v)) (j + 1) D') := by
  obtain ⟨⟨hR, hFX, hFM, hWm, hi⟩, ⟨w, z, E, hX, hb, hsm⟩, hst, ⟨hTR, hf0, hf1⟩, ⟨hc2, hc3, hL'⟩, hTS, hD, hA⟩ := h
  have hN := hR.2.1.1.2.2.2.2.2.2
  have hR1 : RL t n N x' (aS y W v) j := hR.cg2 (fun p q u => hf p q (by omega) (by omega) (by omega) (by omega)) (fun p q u => aS_at (by omega) (by omega))
  refine (hR1.take hlt).mono fun x'' hs => ?_
  obtain ⟨s1, s2, s3, s4⟩ := hs
  have ev := fun τ => aS_ev (y := y) (W := W) (v := v) hst.1 (lo := f) (hi := x 10 13) (τ := τ)
  have e70 : nxb (aS y W v) 1570 W = y 1570 W + 1 := by rw [nx_at (by omega)]; exact (ev fun _ => true).1
  have ex : ∀ p q, ¬ (p = 10 ∧ ((5 ≤ q ∧ q ≤ 9) ∨ q = 15 ∨ q = 16)) → p ≠ 11 → p ≠ 13 → ¬ (p = c ∧ q = 1) → p ≠ c + 1 → x'' p q = x p q := fun p q u1 u2 u3 u4 u5 => by
    rw [s1 p q (by omega) u2]; exact hf p q (by omega) u3 u4 u5
  have ey : ∀ p q, ¬ (p = 1545 ∧ q = 29) → ¬ (p = 1569 ∧ q = 4002 * W + y 1570 W) → ¬ (p = 1570 ∧ q = W) → nxb (aS y W v) p q = y p q := fun p q u1 u2 u3 => by
    rw [nx_at u1]; exact aS_at u2 u3
  have e9 : x'' 10 9 = -1 → x 10 9 = -1 := fun q => by
    have u := hf 10 9 (by omega) (by omega) (by omega) (by omega)
    rcases Int.decEq (x 10 9) (-1) with r | r
    · have := s3 (by rw [u]; exact r)
      exact absurd q this.1
    · exact r
  have wmx : Wm x x'' := fun q => by
    have u := hf 10 9 (by omega) (by omega) (by omega) (by omega)
    rw [← u] at q ⊢
    exact s3 q
  refine ⟨⟨s4, fun p q u1 u2 u3 u4 u5 u6 => ?_, fun p q u1 u2 u3 u4 u5 => ?_, hWm.trans wmx, by omega⟩, ⟨w', z', E', hx.cg fun p q u => s1 p q (by omega) (by omega), by omega, fun q => ⟨hsem (e9 q) (hsm (e9 q)).1, fun τ => ?_⟩⟩, ?_, ⟨⟨?_, ?_⟩, hf0, ?_⟩, ⟨?_, ?_, ?_⟩, fun q k k0 k1 => ?_, hD', ?_, ?_⟩
  · rw [ex p q (by omega) u2 u3 (by omega) u5]; exact hFX p q u1 u2 u3 u4 u5 u6
  · rw [ey p q (by omega) (by omega) u3]; exact hFM p q u1 u2 u3 u4 u5
  · obtain ⟨V, Lv, g1, g2, g3⟩ := (hsm (e9 q)).2 τ
    have ee : evM f (x 10 13) τ (fun k => nxb (aS y W v) 1569 (4002 * W + k)) (nxb (aS y W v) 1570 W).toNat = sM f (x 10 13) τ v (evM f (x 10 13) τ (fun k => y 1569 (4002 * W + k)) (y 1570 W).toNat) := by
      rw [← (ev τ).2, nx_at (by omega)]
      exact evM_cg fun k _ _ => nx_at (by omega)
    obtain ⟨V', Lv', r1, r2, r3⟩ := hS E w z hX τ V Lv _ (hsem (e9 q) (hsm (e9 q)).1) g1 g3
    refine ⟨V', Lv', r1, ?_, r3⟩
    rw [ex 10 13 (by omega) (by omega) (by omega) (by omega) (by omega), ee, g2]
    refine r2.trans ?_
    congr 2
    exact (fsX_cg fun k _ _ => ex _ _ (by omega) (by omega) (by omega) (by omega) (by omega)).symm
  · rw [e70]; omega
  · rw [ex _ _ (by omega) (by omega) (by omega) (by omega) (by omega)]; exact hTR.1
  · rw [ex _ _ (by omega) (by omega) (by omega) (by omega) (by omega), ey _ _ (by omega) (by omega) (by omega)]
    rcases hTR.2 with q | q
    · exact Or.inl q
    · exact Or.inr ⟨q.1, q.2.1, (wmx q.2.2).1⟩
  · rw [ex _ _ (by omega) (by omega) (by omega) (by omega) (by omega)]; exact hf1
  · rw [ex _ _ (by omega) (by omega) (by omega) (by omega) (by omega)]; exact hc2
  · rw [ex _ _ (by omega) (by omega) (by omega) (by omega) (by omega), ex _ _ (by omega) (by omega) (by omega) (by omega) (by omega)]; exact hc3
  · rw [ex _ _ (by omega) (by omega) (by omega) (by omega) (by omega)]; exact hL'
  · rw [ex 10 13 (by omega) (by omega) (by omega) (by omega) (by omega)] at k1
    refine (hTS (e9 q) k k0 k1).cg (fun p p0 p1 => ex _ _ (by omega) (by omega) (by omega) (by omega) (by omega)) (fun p p0 p1 => ey _ _ (by omega) (by omega) (by omega))
  · rw [ex _ _ (by omega) (by omega) (by omega) (by omega) (by omega)]; exact hA.1
  · rw [ey _ _ (by omega) (by omega) (by omega)]; exact hA.2
/-- X works on its stack alone -/
theorem CJ.still (h : CJ t n N a b L c W f A i0 S x y j D) (hL : 15 ≤ L) (hc : L + 2 ≤ c ∧ c ≤ L + 4) {x' : Dt} {D' : List (Nat × Nat)} {E' : (Int → Bool) → Option (List Bool)} {w' z' : Int} (hf : FQ c x x') (hx : XC c x' (flat D') E' w' z' (par D')) (hb' : w' + z' + 1 ≤ (j : Int)) (hD' : ∀ q ∈ D', q.2 ≤ 3) (hlen : D'.length ≤ D.length) (hS : ∀ E w z, XC c x (flat D) E w z (par D) → ∀ τ V Lv, E τ = some V → S D V Lv → ∃ V', E' τ = some V' ∧ S' D' V' Lv) : CJ t n N a b L c W f A i0 S' x' y j D' := by
  obtain ⟨⟨hR, hFX, hFM, hWm, hi⟩, ⟨w, z, E, hX, hb, hsm⟩, hst, ⟨hTR, hf0, hf1⟩, ⟨hc2, hc3, hL'⟩, hTS, hD, hA⟩ := h
  have hR1 : RL t n N x' y j := hR.cg2 (fun p q u => hf p q (by omega) (by omega) (by omega) (by omega)) (fun p q u => rfl)
  have ex : ∀ p q, ¬ (p = 10 ∧ (q = 15 ∨ q = 16)) → p ≠ 13 → ¬ (p = c ∧ q = 1) → p ≠ c + 1 → x' p q = x p q := fun p q u1 u3 u4 u5 => hf p q (by omega) u3 u4 u5
  have e9 : x' 10 9 = x 10 9 := ex 10 9 (by omega) (by omega) (by omega) (by omega)
  refine ⟨⟨hR1, fun p q u1 u2 u3 u4 u5 u6 => ?_, hFM, fun q => by rw [e9]; exact hWm q, hi⟩, ⟨w', z', E', hx, hb', fun q => ?_⟩, hst, ⟨⟨?_, ?_⟩, hf0, ?_⟩, ⟨?_, ?_, ?_⟩, fun q k k0 k1 => ?_, hD', ?_, hA.2⟩
  · rw [ex p q (by omega) u3 (by omega) u5]; exact hFX p q u1 u2 u3 u4 u5 u6
  · rw [e9] at q
    refine ⟨Nat.le_trans hlen (hsm q).1, fun τ => ?_⟩
    obtain ⟨V, Lv, g1, g2, g3⟩ := (hsm q).2 τ
    obtain ⟨V', r1, r2⟩ := hS E w z hX τ V Lv g1 g3
    refine ⟨V', Lv, r1, ?_, r2⟩
    rw [ex 10 13 (by omega) (by omega) (by omega) (by omega), g2]
    congr 2
    exact (fsX_cg fun k _ _ => ex _ _ (by omega) (by omega) (by omega) (by omega)).symm
  · rw [ex _ _ (by omega) (by omega) (by omega) (by omega)]; exact hTR.1
  · rw [ex _ _ (by omega) (by omega) (by omega) (by omega), e9]
    exact hTR.2
  · rw [ex _ _ (by omega) (by omega) (by omega) (by omega)]; exact hf1
  · rw [ex _ _ (by omega) (by omega) (by omega) (by omega)]; exact hc2
  · rw [ex _ _ (by omega) (by omega) (by omega) (by omega), ex _ _ (by omega) (by omega) (by omega) (by omega)]; exact hc3
  · rw [ex _ _ (by omega) (by omega) (by omega) (by omega)]; exact hL'
  · rw [e9] at q
    rw [ex 10 13 (by omega) (by omega) (by omega) (by omega)] at k1
    refine (hTS q k k0 k1).cg (fun p p0 p1 => ex _ _ (by omega) (by omega) (by omega) (by omega)) (fun p p0 p1 => rfl)
  · rw [ex _ _ (by omega) (by omega) (by omega) (by omega)]; exact hA.1
end CJS
