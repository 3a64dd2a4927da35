/-! LEVEL 3: a person comes -/
set_option maxRecDepth 100000
theorem nt13 {m : Dt} (h : 1666 ≤ m 0 0) : PT (nt_X13 m) (m 0 0) ∧ ∀ x, x < m 0 0 → nt_X13 m x 3 = m x 3 := by
  have v1 : 1 ≤ m 0 0 := by omega
  obtain ⟨hk, q1, q2, q3, q4, q5, q6, -⟩ := ns_X13 (m := aln m ((12 : Nat) + 1 : Int) 0) (o := m 0 0) (aln_next v1) (by omega)
  refine ⟨⟨h, ?_, fun j j0 j1 => ?_⟩, fun x hx => ?_⟩
  · unfold nt_X13
    rw [st_eq]; rfl
  · unfold nt_X13
    rw [st_na (by omega)]
    have : j = 1 ∨ j = 2 ∨ j = 3 ∨ j = 4 ∨ j = 5 ∨ j = 6 := by omega
    rcases this with rfl | rfl | rfl | rfl | rfl | rfl
    · exact q1.1
    · exact q2.1
    · exact q3.1
    · exact q4.1
    · exact q5.1
    · exact q6.1
  · unfold nt_X13
    rw [st_na (by omega), hk.2.2.2.2 x 3 (by omega) (by omega), aln_old (by omega) (by omega)]
theorem Mv.nil {D T D' T' : Int → Int} : Mv D T D' T' 0 := by
  have na : ∀ {D T : Int → Int} {t v : Int}, Ad D T 0 t v ↔ v = -1 := fun {D T t v} => ⟨fun q => by
    rcases q with ⟨e, _⟩ | ⟨k, ⟨k0, k1, _⟩, _⟩
    · exact e
    · omega, fun e => Or.inl ⟨e, fun k k0 k1 => by omega⟩⟩
  refine ⟨fun i j a b c => by omega, fun t => ⟨fun ⟨k, a, b, _⟩ => by omega, fun ⟨k, a, b, _⟩ => by omega⟩, fun t v => by rw [na, na], fun k a b => by omega, fun k a b => by omega⟩
theorem nw13 {d : Dt} {o a1 a2 a3 b : Int} : (nwX13 o a1 a2 a3 b d o 0 = a1 ∧ nwX13 o a1 a2 a3 b d o 1 = a2 ∧ nwX13 o a1 a2 a3 b d o 2 = a3 ∧ nwX13 o a1 a2 a3 b d o 3 = b ∧ nwX13 o a1 a2 a3 b d o 4 = 36525 ∧ nwX13 o a1 a2 a3 b d o 5 = d o 5 ∧ nwX13 o a1 a2 a3 b d o 8 = d o 8 ∧ nwX13 o a1 a2 a3 b d o 13 = d o 13) ∧ ∀ x y, x ≠ o → nwX13 o a1 a2 a3 b d x y = d x y := by
  unfold nwX13
  refine ⟨⟨?_, ?_, ?_, ?_, ?_, ?_, ?_, ?_⟩, fun x y h => ?_⟩
  · simp [st]
  · simp [st]
  · simp [st]
  · simp [st]
  · simp [st]
  · simp [st]
  · simp [st]
  · simp [st]
  · rw [st_na h, st_na h, st_na h, st_na h, st_na h, st_na h, st_na h, st_na h, st_na h, st_na h, st_na h]
theorem op_person {m d : Dt} {a1 a2 a3 : Int} (h1 : R1 d) (h4 : R4 m d) (hK : Kon d) (i1 : in32 a1) (i2 : in32 a2) (i3 : in32 a3) (hm : 1666 ≤ m 0 0) (hz : ∀ a k, m 0 0 ≤ a → d a k = 0) (hy : ∀ a j, m 0 0 ≤ a → m a j = 0) : wp (fX0_person d m a1 a2 a3) (fun p => (p.2.1 = m ∨ p.2.1 = nt_X13 m) ∧ wp (fX11_person p.1 a1 a2 a3) (fun q => q.2 = p.2.2 ∧ Sm p.2.1 [1, 4] d q.1 ∧ R1 q.1 ∧ R4 p.2.1 q.1)) := by
  have h4' := h4
  obtain ⟨a, b, c, e, f⟩ := h4
  have h1' := h1
  obtain ⟨h, n, bx, bm⟩ := h1
  unfold fX0_person
  by_cases q1 : isDt a1 a2 a3 1900
  · rw [if_neg (fun q => is_X.mp q q1)]
    by_cases q2 : d 1 5 = 60
    · rw [if_pos q2, wp_some]
      refine ⟨Or.inl rfl, ?_⟩
      dsimp only
      unfold fX11_person
      rw [wp_b1]
      refine (dayOf_M q1).mono fun r hr => ?_
      have := dnum_in q1
      rw [if_neg (by omega), ← a, if_pos q2, wp_some]
      exact ⟨rfl, Sm.refl, h1', h4'⟩
    · rw [if_neg q2]
      have q1' := q1
      obtain ⟨y0, y1, y2⟩ := q1
      have ml := mlen_in a1 a2
      simp only [wp_lv, wp_b1]
      refine (of_X ⟨y0.1, y0.2⟩ y1 (by omega)).mono fun r hr => ?_
      subst hr
      have hd := dnum_in q1'
      simp only [wp_ck, wp_sd, wp_lv, wp_lm, wp_some, wp_b1, wp_bd, wp_b2, wp_b3, wp_up, wp_map]
      refine ⟨by omega, ?_⟩
      obtain ⟨pt, pm⟩ := nt13 hm
      have om : ∀ x, m x 3 ≠ 0 → nt_X13 m x 3 = m x 3 := fun x hx => pm x (by
        rcases Int.lt_or_le x (m 0 0) with q | q
        · exact q
        · exact absurd (hy x 3 q) hx)
      have h5 := h4'.mg om
      have z0 : ∀ y, d (m 0 0) y = 0 := fun y => hz _ _ (Int.le_refl _)
      have ol : ∀ p, 0 ≤ p → p < d 1 5 → d 9 p + 7 ≤ m 0 0 := fun p p0 p1 => by
        have t := (c p p0 p1).1.2.2 6 (by decide) (by decide)
        rcases Int.lt_or_le (d 9 p + 6) (m 0 0) with q | q
        · omega
        · rw [hy _ 3 q] at t; exact absurd t (by decide)
      generalize m 0 0 = o at *
      generalize nt_X13 m = M at *
      obtain ⟨⟨w0, w1, w2, w3, w4, w5, w8, w13⟩, wo⟩ := nw13 (d := d) (o := o) (a1 := a1) (a2 := a2) (a3 := a3) (b := dnum a1 a2 a3)
      have s1 : Sm M [4] d (nwX13 o a1 a2 a3 (dnum a1 a2 a3) d) := fun x y hx => wo x y (fun q => hx (by rw [q, pt.md0]; decide))
      rw [z0] at w5 w8 w13
      generalize nwX13 o a1 a2 a3 (dnum a1 a2 a3) d = N at *
      have v5 : st N 9 (d 1 5) o 1 5 = d 1 5 := by rw [st_na (by decide), wo _ _ (by omega)]
      rw [v5, w32_of (show (-2147483648 : Int) ≤ d 1 5 + 1 by omega) (show d 1 5 + 1 ≤ (2147483647 : Int) by omega)]
      have k0 : Tk M N N h n h n := ⟨Sm.refl, bx.cg s1, bm.cg s1, hK.cg s1⟩
      have k1 := (k0.sto (a := 9) (k := d 1 5) (v := o) 4).sto (a := 1) (k := 5) (v := d 1 5 + 1) 4
      refine k1.wX.mono fun d1 k2 => ⟨Or.inr trivial, ?_⟩
      have r1 : d1 1 5 = d 1 5 + 1 := by rw [k2.at 4 1 5, st_eq]
      have r2 : d1 1545 10 = d 1 5 := by rw [k2.at 4 1545 10, st_na (by decide), st_na (by decide), wo _ _ (by omega), a]
      unfold fX11_person
      rw [wp_b1]
      refine (dayOf_M q1').mono fun r hr => ?_
      subst hr
      rw [if_neg (by omega), r2, if_neg q2]
      have r3 : ∀ D : Dt, ∀ x k v, x ≠ 1545 → D 1545 10 = d 1 5 → st D x k v 1545 10 = d 1 5 := fun D x k v hx hD => by rw [st_na (fun e => hx e.symm), hD]
      have t1 := r3 d1 1552 (d 1 5) (dnum a1 a2 a3) (by decide) r2
      have t2 := r3 _ 1553 (d 1 5) a1 (by decide) t1
      have t3 := r3 _ 1554 (d 1 5) a2 (by decide) t2
      have t4 := r3 _ 1555 (d 1 5) a3 (by decide) t3
      simp only [wp_ck, wp_sd, wp_lv, wp_lm, wp_some, wp_b1, wp_bd, wp_b2, wp_b3, wp_up, wp_map, t1, t2, t3, t4]
      refine ⟨by omega, by omega, by omega, by omega, by omega, ?_⟩
      have k3 := ((((k2.sto (a := 1552) (k := d 1 5) (v := dnum a1 a2 a3) 4).sto (a := 1553) (k := d 1 5) (v := a1) 4).sto (a := 1554) (k := d 1 5) (v := a2) 4).sto (a := 1555) (k := d 1 5) (v := a3) 4).sto (a := 1556) (k := d 1 5) (v := -2147483648) 4
      refine (k3.wM bx.in ⟨by decide, by decide⟩ i1 i2 i3 ⟨by decide, by decide⟩).mono fun d2 k4 => ?_
      have r4 : d2 1545 10 = d 1 5 := by
        rw [k4.at 4 1545 10, st_na (by decide), st_na (by decide), st_na (by decide), st_na (by decide), st_na (by decide), st_na (by decide), st_na (by decide), wo _ _ (by omega), a]
      rw [r4, w32_of (show (-2147483648 : Int) ≤ d 1 5 + 1 by omega) (show d 1 5 + 1 ≤ (2147483647 : Int) by omega), r1, w32_of (show (-2147483648 : Int) ≤ d 1 5 + 1 - 1 by omega) (show d 1 5 + 1 - 1 ≤ (2147483647 : Int) by omega)]
      have k5 := k4.sto (a := 1545) (k := 10) (v := d 1 5 + 1) 4
      generalize hP : d 1 5 = P at *
      have g1 : ∀ x y, x ≠ 9 → x ≠ 1 → x ≠ 1545 → x < 1552 ∨ 1556 < x → st (st (st (st (st (st (st (st N 9 P o) 1 5 (P + 1)) 1552 P (dnum a1 a2 a3)) 1553 P a1) 1554 P a2) 1555 P a3) 1556 P (-2147483648)) 1545 10 (P + 1) x y = N x y := fun x y u1 u2 u3 u4 => by
        rw [st_na u3, st_na (by omega), st_na (by omega), st_na (by omega), st_na (by omega), st_na (by omega), st_na u2, st_na u1]
      have g2 : ∀ x k, 1552 ≤ x → x ≤ 1556 → k ≠ P → st (st (st (st (st (st (st (st N 9 P o) 1 5 (P + 1)) 1552 P (dnum a1 a2 a3)) 1553 P a1) 1554 P a2) 1555 P a3) 1556 P (-2147483648)) 1545 10 (P + 1) x k = N x k := fun x k u1 u2 u3 => by
        rw [st_na (by omega), st_nk u3, st_nk u3, st_nk u3, st_nk u3, st_nk u3, st_na (by omega), st_na (by omega)]
      have g3 : st (st (st (st (st (st (st (st N 9 P o) 1 5 (P + 1)) 1552 P (dnum a1 a2 a3)) 1553 P a1) 1554 P a2) 1555 P a3) 1556 P (-2147483648)) 1545 10 (P + 1) 1552 P = dnum a1 a2 a3 ∧ st (st (st (st (st (st (st (st N 9 P o) 1 5 (P + 1)) 1552 P (dnum a1 a2 a3)) 1553 P a1) 1554 P a2) 1555 P a3) 1556 P (-2147483648)) 1545 10 (P + 1) 1553 P = a1 ∧ st (st (st (st (st (st (st (st N 9 P o) 1 5 (P + 1)) 1552 P (dnum a1 a2 a3)) 1553 P a1) 1554 P a2) 1555 P a3) 1556 P (-2147483648)) 1545 10 (P + 1) 1554 P = a2 ∧ st (st (st (st (st (st (st (st N 9 P o) 1 5 (P + 1)) 1552 P (dnum a1 a2 a3)) 1553 P a1) 1554 P a2) 1555 P a3) 1556 P (-2147483648)) 1545 10 (P + 1) 1555 P = a3 ∧ st (st (st (st (st (st (st (st N 9 P o) 1 5 (P + 1)) 1552 P (dnum a1 a2 a3)) 1553 P a1) 1554 P a2) 1555 P a3) 1556 P (-2147483648)) 1545 10 (P + 1) 1556 P = -2147483648 := by
        refine ⟨?_, ?_, ?_, ?_, ?_⟩
        · rw [st_na (by decide), st_na (by decide), st_na (by decide), st_na (by decide), st_na (by decide), st_eq]
        · rw [st_na (by decide), st_na (by decide), st_na (by decide), st_na (by decide), st_eq]
        · rw [st_na (by decide), st_na (by decide), st_na (by decide), st_eq]
        · rw [st_na (by decide), st_na (by decide), st_eq]
        · rw [st_na (by decide), st_eq]
      have g4 : ∀ k, st (st (st (st (st (st (st (st N 9 P o) 1 5 (P + 1)) 1552 P (dnum a1 a2 a3)) 1553 P a1) 1554 P a2) 1555 P a3) 1556 P (-2147483648)) 1545 10 (P + 1) 9 k = if k = P then o else d 9 k := fun k => by
        rw [st_na (by decide), st_na (by decide), st_na (by decide), st_na (by decide), st_na (by decide), st_na (by decide), st_na (by decide)]
        by_cases z : k = P
        · subst z; rw [st_eq, if_pos rfl]
        · rw [st_nk z, if_neg z, wo _ _ (by omega)]
      have g5 : st (st (st (st (st (st (st (st N 9 P o) 1 5 (P + 1)) 1552 P (dnum a1 a2 a3)) 1553 P a1) 1554 P a2) 1555 P a3) 1556 P (-2147483648)) 1545 10 (P + 1) 1 5 = P + 1 := by
        rw [st_na (by decide), st_na (by decide), st_na (by decide), st_na (by decide), st_na (by decide), st_na (by decide), st_eq]
      have g6 : st (st (st (st (st (st (st (st N 9 P o) 1 5 (P + 1)) 1552 P (dnum a1 a2 a3)) 1553 P a1) 1554 P a2) 1555 P a3) 1556 P (-2147483648)) 1545 10 (P + 1) 1545 10 = P + 1 := st_eq _ _ _ _
      have sG : Sm M [4] N (st (st (st (st (st (st (st (st N 9 P o) 1 5 (P + 1)) 1552 P (dnum a1 a2 a3)) 1553 P a1) 1554 P a2) 1555 P a3) 1556 P (-2147483648)) 1545 10 (P + 1)) := (((((((Sm.sto 4).trans (Sm.sto 4) (T := [4])).trans (Sm.sto 4) (T := [4])).trans (Sm.sto 4) (T := [4])).trans (Sm.sto 4) (T := [4])).trans (Sm.sto 4) (T := [4])).trans (Sm.sto 4) (T := [4])).trans (Sm.sto 4)
      generalize st (st (st (st (st (st (st (st N 9 P o) 1 5 (P + 1)) 1552 P (dnum a1 a2 a3)) 1553 P a1) 1554 P a2) 1555 P a3) 1556 P (-2147483648)) 1545 10 (P + 1) = G at *
      generalize st d2 1545 10 (P + 1) = D at *
      refine ⟨by omega, k5.end4 (s1.trans sG) ?_⟩
      have pO := pt.1
      refine ⟨by rw [g5, g6], by rw [g5]; omega, fun p p0 p1 => ?_, fun p q p0 pq q1 => ?_, fun p p0 p1 => ?_⟩
      · rw [g5] at p1
        rw [g4]
        by_cases z : p = P
        · subst z
          rw [if_pos rfl]
          refine ⟨pt, ?_⟩
          have oo : ∀ y, G o y = N o y := fun y => g1 o y (by omega) (by omega) (by omega) (by omega)
          unfold PX
          simp only [oo, w0, w1, w2, w3, w4, w5, w8, w13, g3.1, g3.2.1, g3.2.2.1, g3.2.2.2.1, g3.2.2.2.2]
          have f0 := f p (by omega) (by omega)
          have f1 : G 1557 p = 0 := by rw [g1 1557 p (by decide) (by decide) (by decide) (by decide), wo _ _ (by omega)]; exact f0.1
          have f2 : G 1560 p = 0 := by rw [g1 1560 p (by decide) (by decide) (by decide) (by decide), wo _ _ (by omega)]; exact f0.2
          rw [f1, f2]
          refine ⟨⟨q1', by simp⟩, Or.inl (by simp), ⟨rfl, by omega, Mv.nil⟩, rfl, by omega, fun k k0 k1 => by omega⟩
        · rw [if_neg z]
          obtain ⟨c1, c2⟩ := h5.2.2.1 p p0 (by omega)
          have c3 := c1.1
          have c4 := ol p p0 (by omega)
          refine ⟨c1, c2.cg (fun j k j0 j1 => ?_) (fun r u1 u2 u3 u4 u5 => ?_) (fun k k0 k1 => ⟨?_, ?_⟩) (fun r k u1 u2 u3 u4 => ?_)⟩
          · rw [g1 _ _ (by omega) (by omega) (by omega) (by omega), wo _ _ (by omega)]
          · by_cases y : r ≤ 1556
            · rw [g2 r p u1 y z, wo _ _ (by omega)]
            · rw [g1 _ _ (by omega) (by omega) (by omega) (by omega), wo _ _ (by omega)]
          · rw [g1 _ _ (by decide) (by decide) (by decide) (by decide), wo _ _ (by omega)]
          · rw [g1 _ _ (by decide) (by decide) (by decide) (by decide), wo _ _ (by omega)]
          · rw [g1 _ _ (by omega) (by omega) (by omega) (by omega), wo _ _ (by omega)]
      · rw [g5] at q1
        rw [g4, g4, if_neg (by omega)]
        by_cases z : q = P
        · rw [if_pos z]; exact ol p p0 (by omega)
        · rw [if_neg z]; exact e p q p0 pq (by omega)
      · rw [g5] at p0
        rw [g1 1557 p (by decide) (by decide) (by decide) (by decide), g1 1560 p (by decide) (by decide) (by decide) (by decide), wo _ _ (by omega), wo _ _ (by omega)]
        exact f p (by omega) p1
  · rw [if_pos (is_X.mpr q1), wp_some]
    refine ⟨Or.inl rfl, ?_⟩
    dsimp only
    unfold fX11_person
    rw [dayOf_no q1, wp_b1, wp_some, if_pos rfl, wp_some]
    exact ⟨rfl, Sm.refl, h1', h4'⟩
