/-! LEVEL 3: the book, the reference's side -/
set_option maxRecDepth 100000
def layD (d : Dt) (a p v n : Int) : Dt := fun x y => if x = a ∧ p ≤ y ∧ y < p + n then byt v (y - p) else d x y
theorem layD_na {d : Dt} {a p v n x y : Int} (h : x ≠ a) : layD d a p v n x y = d x y := by unfold layD; rw [if_neg (fun q => h q.1)]
theorem layD_in {d : Dt} {a p v n y : Int} (h : p ≤ y ∧ y < p + n) : layD d a p v n a y = byt v (y - p) := by unfold layD; rw [if_pos ⟨rfl, h⟩]
theorem layD_out {d : Dt} {a p v n x y : Int} (h : y < p ∨ p + n ≤ y) : layD d a p v n x y = d x y := by unfold layD; rw [if_neg (by omega)]
theorem wp_lay4 {d : Dt} {a n p v : Int} (h0 : 0 ≤ p) (h1 : p + 4 ≤ n) (h2 : n ≤ 100000) : wp (fX11_lay4 d a n p v) (fun d' => d' = layD d a p v 4) := by
  unfold fX11_lay4 fX11_lay4_3
  refine wp_for (fun k d' => d' = layD d a p v k) 0 4 (by omega) (fun k d' k0 k1 hI => ?_) (fun d' hI => ?_) (funext fun x => funext fun y => (layD_out (by omega)).symm)
  · unfold fX11_lay4_3f
    dsimp only
    rw [if_neg (by omega)]
    simp only [wp_ck, wp_sd, wp_lv, wp_lm, wp_some, wp_b1, wp_bd, wp_b2, wp_b3, wp_up, wp_map, w32_of (show (-2147483648 : Int) ≤ k + 1 by omega) (show k + 1 ≤ (2147483647 : Int) by omega), w32_of (show (-2147483648 : Int) ≤ p + k by omega) (show p + k ≤ (2147483647 : Int) by omega)]
    refine ⟨by omega, _, rfl, funext fun x => funext fun y => ?_⟩
    subst hI
    by_cases e : x = a ∧ y = p + k
    · obtain ⟨e1, e2⟩ := e
      subst e1; subst e2
      rw [st_eq, layD_in (by omega)]
      unfold byt
      rw [show p + k - p = k by omega]
    · unfold st
      rw [if_neg e]
      by_cases e1 : x = a
      · subst e1
        rcases Int.lt_or_le y (p + k) with q | q
        · rcases Int.lt_or_le y p with q2 | q2
          · rw [layD_out (by omega), layD_out (by omega)]
          · rw [layD_in (by omega), layD_in (by omega)]
        · rw [layD_out (by omega), layD_out (by omega)]
      · rw [layD_na e1, layD_na e1]
  · unfold fX11_lay4_3f
    dsimp only
    rw [if_pos (by omega)]
    simp only [wp_ck, wp_sd, wp_lv, wp_lm, wp_some, wp_b1, wp_bd, wp_b2, wp_b3, wp_up, wp_map]
    exact ⟨_, rfl, hI⟩
/-- the constants of the reference -/
def Kon (d : Dt) : Prop := (∀ y, 0 ≤ y → y < 64 → d 1664 y = xK.getD (Int.toNat y) 0) ∧ ∀ y, 0 ≤ y → y < 8 → d 1665 y = xB.getD (Int.toNat y) 0
theorem wp_m403 {d : Dt} {v : Int → Int} (hK : Kon d) (hv : ∀ y, 0 ≤ y → y < 8 → d 1663 y = v y) : wp (fX11_digest_403 d 0) (fun d' => (∀ x y, x ≠ 1662 → d' x y = d x y) ∧ ∀ y, 0 ≤ y → y < 8 → d' 1662 y = w32 (xB.getD (Int.toNat y) 0 + v y)) := by
  unfold fX11_digest_403
  refine wp_for (fun k d' => (∀ x y, x ≠ 1662 → d' x y = d x y) ∧ ∀ y, 0 ≤ y → y < k → d' 1662 y = w32 (xB.getD (Int.toNat y) 0 + v y)) 0 8 (by omega) (fun k d' k0 k1 hI => ?_) (fun d' hI => ?_) ⟨fun _ _ _ => rfl, fun y h0 h1 => by omega⟩
  · unfold fX11_digest_403f
    dsimp only
    rw [if_neg (by omega)]
    simp only [wp_ck, wp_sd, wp_lv, wp_lm, wp_some, wp_b1, wp_bd, wp_b2, wp_b3, wp_up, wp_map, w32_of (show (-2147483648 : Int) ≤ k + 1 by omega) (show k + 1 ≤ (2147483647 : Int) by omega)]
    refine ⟨⟨k0, k1⟩, _, rfl, fun x y hx => by rw [st_na hx]; exact hI.1 x y hx, fun y h0 h1 => ?_⟩
    by_cases e : y = k
    · subst e
      rw [st_eq, hI.1 1663 y (by decide), hI.1 1665 y (by decide), hv y h0 (by omega), hK.2 y h0 (by omega)]
    · rw [st_nk e]
      exact hI.2 y h0 (by omega)
  · unfold fX11_digest_403f
    dsimp only
    rw [if_pos (by omega)]
    simp only [wp_ck, wp_sd, wp_lv, wp_lm, wp_some, wp_b1, wp_bd, wp_b2, wp_b3, wp_up, wp_map]
    exact ⟨_, rfl, hI⟩
/-- the eight numbers are moved on by one -/
theorem wp_m346 {d : Dt} {v1 v4 v5 : Int} (h1 : 0 ≤ v1 ∧ v1 < 64) : wp (fX11_digest_346 d v1 v4 v5 7) (fun r => ∃ d', r = .inl (d', v1 + 1) ∧ (∀ x y, x ≠ 1663 → d' x y = d x y) ∧ d' 1663 0 = w32 (v4 + v5) ∧ d' 1663 4 = w32 (d 1663 3 + v4) ∧ ∀ y, 1 ≤ y → y < 8 → y ≠ 4 → d' 1663 y = d 1663 (y - 1)) := by
  unfold fX11_digest_346
  refine wp_loop (n := 7) (fun n s => (s.2 = (n : Int)) ∧ n ≤ 7 ∧ (∀ x y, x ≠ 1663 → s.1 x y = d x y) ∧ (∀ y, s.2 < y → y < 8 → s.1 1663 y = d 1663 (y - 1)) ∧ ∀ y, 0 ≤ y → y ≤ s.2 → s.1 1663 y = d 1663 y) (fun n s hs => ?_) ⟨rfl, by omega, fun _ _ _ => rfl, fun y a b => absurd (show (7 : Int) < y from a) (by omega), fun _ _ _ => rfl⟩
  obtain ⟨d', v6⟩ := s
  obtain ⟨i1, i2, i3, i4, i5⟩ := hs
  dsimp only at i1 i2 i3 i4 i5
  unfold fX11_digest_346f
  dsimp only
  by_cases e : v6 ≤ 0
  · rw [if_pos e]
    simp only [wp_ck, wp_sd, wp_lv, wp_lm, wp_some, wp_b1, wp_bd, wp_b2, wp_b3, wp_up, wp_map, w32_of (show (-2147483648 : Int) ≤ v1 + 1 by omega) (show v1 + 1 ≤ (2147483647 : Int) by omega)]
    have e0 : v6 = 0 := by omega
    subst e0
    refine ⟨_, rfl, fun x y hx => by rw [st_na hx, st_na hx]; exact i3 x y hx, by rw [st_eq], ?_, fun y h2 h3 h4 => ?_⟩
    · rw [st_nk (by decide), st_eq, i4 4 (by omega) (by omega)]
      rfl
    · rw [st_nk (by omega), st_nk h4]
      exact i4 y (by omega) h3
  · rw [if_neg e]
    simp only [wp_ck, wp_sd, wp_lv, wp_lm, wp_some, wp_b1, wp_bd, wp_b2, wp_b3, wp_up, wp_map, w32_of (show (-2147483648 : Int) ≤ v6 - 1 by omega) (show v6 - 1 ≤ (2147483647 : Int) by omega), w32_of (show (-2147483648 : Int) ≤ v6 + (-1) by omega) (show v6 + (-1) ≤ (2147483647 : Int) by omega)]
    refine ⟨by omega, by omega, n - 1, by omega, by show v6 + (-1) = _; omega, by omega, fun x y hx => by rw [st_na hx]; exact i3 x y hx, fun y h2 h3 => ?_, fun y h2 h3 => ?_⟩
    · have h2 : v6 + (-1) < y := h2
      by_cases e2 : y = v6
      · subst e2
        rw [st_eq]
        exact i5 _ (by omega) (by omega)
      · rw [st_nk e2]
        exact i4 y (by omega) h3
    · have h3 : y ≤ v6 + (-1) := h3
      rw [st_nk (by omega)]
      exact i5 y h2 (by omega)
theorem wp_m204 {d : Dt} {W : Int → Int} (hK : Kon d) (hw : ∀ y, 0 ≤ y → y < 64 → d 1661 y = W y) (hv : ∀ y, 0 ≤ y → y < 8 → d 1663 y = xB.getD (Int.toNat y) 0) : wp (fX11_digest_204 d 0) (fun d' => (∀ x y, x ≠ 1662 → x ≠ 1663 → d' x y = d x y) ∧ ∀ y, 0 ≤ y → y < 8 → d' 1662 y = w32 (xB.getD (Int.toNat y) 0 + shV W 64 y)) := by
  unfold fX11_digest_204
  refine wp_for (fun k d' => (∀ x y, x ≠ 1663 → d' x y = d x y) ∧ ∀ y, 0 ≤ y → y < 8 → d' 1663 y = shV W k.toNat y) 0 64 (by omega) (fun k d' k0 k1 hI => ?_) (fun d' hI => ?_) ⟨fun _ _ _ => rfl, fun y h0 h1 => hv y h0 h1⟩
  · unfold fX11_digest_204f
    dsimp only
    rw [if_neg (by omega)]
    simp only [wp_ck, wp_sd, wp_lv, wp_lm, wp_some, wp_b1, wp_bd, wp_b2, wp_b3, wp_up, wp_map]
    refine ⟨⟨k0, k1⟩, ?_⟩
    have hO : w32 ((w32 ((w32 ((w32 ((d' 1663 7) + (bXor (bXor (fX11_turn (d' 1663 4) 6) (fX11_turn (d' 1663 4) 11)) (fX11_turn (d' 1663 4) 25)))) + (bXor (bAnd (d' 1663 4) (d' 1663 5)) (bAnd (bXor (d' 1663 4) (-1)) (d' 1663 6))))) + (d' 1664 k))) + (d' 1661 k)) = shO (shV W k.toNat) W k := by
      rw [hI.1 1664 k (by decide), hK.1 k k0 k1]
      show shO (d' 1663) (d' 1661) k = _
      exact shO_cg hI.2 (by rw [hI.1 1661 k (by decide)]; exact hw k k0 k1)
    have hT : w32 ((bXor (bXor (fX11_turn (d' 1663 0) 2) (fX11_turn (d' 1663 0) 13)) (fX11_turn (d' 1663 0) 22)) + (bXor (bXor (bAnd (d' 1663 0) (d' 1663 1)) (bAnd (d' 1663 0) (d' 1663 2))) (bAnd (d' 1663 1) (d' 1663 2)))) = shT (shV W k.toNat) := by
      show shT (d' 1663) = _
      exact shT_cg hI.2
    rw [hO, hT]
    have ek : (k + 1).toNat = k.toNat + 1 := by omega
    have ek2 : ((k.toNat : Nat) : Int) = k := by omega
    refine (wp_m346 ⟨k0, k1⟩).mono fun r hr => ?_
    obtain ⟨d2, rfl, g1, g2, g3, g4⟩ := hr
    refine ⟨d2, rfl, fun x y hx => (g1 x y hx).trans (hI.1 x y hx), fun y h0 h1 => ?_⟩
    rw [ek]
    simp only [shV]
    rw [ek2]
    by_cases e0 : y = 0
    · subst e0
      rw [g2, if_pos rfl]
    · rw [if_neg e0]
      by_cases e4 : y = 4
      · subst e4
        rw [g3, if_pos rfl, hI.2 3 (by omega) (by omega)]
      · rw [if_neg e4, g4 y (by omega) h1 e4]
        exact hI.2 (y - 1) (by omega) (by omega)
  · unfold fX11_digest_204f
    dsimp only
    rw [if_pos (by omega)]
    simp only [wp_ck, wp_sd, wp_lv, wp_lm, wp_some, wp_b1, wp_bd, wp_b2, wp_b3, wp_up, wp_map]
    have hK' : Kon d' := ⟨fun y h0 h1 => by rw [hI.1 1664 y (by decide)]; exact hK.1 y h0 h1, fun y h0 h1 => by rw [hI.1 1665 y (by decide)]; exact hK.2 y h0 h1⟩
    exact (wp_m403 (v := shV W 64) hK' hI.2).mono fun z hz => ⟨z, rfl, fun x y h1 h2 => (hz.1 x y h1).trans (hI.1 x y h2), hz.2⟩
theorem wp_m178 {d : Dt} {W : Int → Int} (hK : Kon d) (hw : ∀ y, 0 ≤ y → y < 64 → d 1661 y = W y) : wp (fX11_digest_178 d 0) (fun d' => (∀ x y, x ≠ 1662 → x ≠ 1663 → d' x y = d x y) ∧ ∀ y, 0 ≤ y → y < 8 → d' 1662 y = w32 (xB.getD (Int.toNat y) 0 + shV W 64 y)) := by
  unfold fX11_digest_178
  refine wp_for (fun k d' => (∀ x y, x ≠ 1663 → d' x y = d x y) ∧ ∀ y, 0 ≤ y → y < k → d' 1663 y = xB.getD (Int.toNat y) 0) 0 8 (by omega) (fun k d' k0 k1 hI => ?_) (fun d' hI => ?_) ⟨fun _ _ _ => rfl, fun y h0 h1 => by omega⟩
  · unfold fX11_digest_178f
    dsimp only
    rw [if_neg (by omega)]
    simp only [wp_ck, wp_sd, wp_lv, wp_lm, wp_some, wp_b1, wp_bd, wp_b2, wp_b3, wp_up, wp_map, w32_of (show (-2147483648 : Int) ≤ k + 1 by omega) (show k + 1 ≤ (2147483647 : Int) by omega)]
    refine ⟨⟨k0, k1⟩, _, rfl, fun x y hx => by rw [st_na hx]; exact hI.1 x y hx, fun y h0 h1 => ?_⟩
    by_cases e : y = k
    · subst e
      rw [st_eq, hI.1 1665 y (by decide), hK.2 y h0 (by omega)]
    · rw [st_nk e]
      exact hI.2 y h0 (by omega)
  · unfold fX11_digest_178f
    dsimp only
    rw [if_pos (by omega)]
    simp only [wp_ck, wp_sd, wp_lv, wp_lm, wp_some, wp_b1, wp_bd, wp_b2, wp_b3, wp_up, wp_map]
    have hK' : Kon d' := ⟨fun y h0 h1 => by rw [hI.1 1664 y (by decide)]; exact hK.1 y h0 h1, fun y h0 h1 => by rw [hI.1 1665 y (by decide)]; exact hK.2 y h0 h1⟩
    exact (wp_m204 hK' (fun y h0 h1 => by rw [hI.1 1661 y (by decide)]; exact hw y h0 h1) hI.2).mono fun z hz => ⟨z, rfl, fun x y h1 h2 => (hz.1 x y h1 h2).trans (hI.1 x y h2), hz.2⟩
theorem wp_mdig {d : Dt} {W0 : Int → Int} (hK : Kon d) (hi : ∀ k, 0 ≤ k → k < 16 → in32 (W0 k)) (hp : ∀ k j, 0 ≤ k → k < 16 → 0 ≤ j → j < 4 → d 1660 (4 * k + j) = byt (W0 k) j) : wp (fX11_digest d) (fun d' => (∀ x y, x ≠ 1661 → x ≠ 1662 → x ≠ 1663 → d' x y = d x y) ∧ ∀ y, 0 ≤ y → y < 8 → d' 1662 y = w32 (xB.getD (Int.toNat y) 0 + shV (shW W0 48) 64 y)) := by
  unfold fX11_digest fX11_digest_2
  refine wp_for (fun k d' => (∀ x y, x ≠ 1661 → d' x y = d x y) ∧ ∀ y, 0 ≤ y → y < k → d' 1661 y = shW W0 (k - 16).toNat y) 0 64 (by omega) (fun k d' k0 k1 hI => ?_) (fun d' hI => ?_) ⟨fun _ _ _ => rfl, fun y h0 h1 => by omega⟩
  · unfold fX11_digest_2f
    dsimp only
    rw [if_neg (by omega)]
    by_cases hk : 16 ≤ k
    · rw [if_pos hk]
      simp only [wp_ck, wp_sd, wp_lv, wp_lm, wp_some, wp_b1, wp_bd, wp_b2, wp_b3, wp_up, wp_map, w32_of (show (-2147483648 : Int) ≤ k - 15 by omega) (show k - 15 ≤ (2147483647 : Int) by omega), w32_of (show (-2147483648 : Int) ≤ k - 2 by omega) (show k - 2 ≤ (2147483647 : Int) by omega), w32_of (show (-2147483648 : Int) ≤ k - 16 by omega) (show k - 16 ≤ (2147483647 : Int) by omega), w32_of (show (-2147483648 : Int) ≤ k - 7 by omega) (show k - 7 ≤ (2147483647 : Int) by omega), w32_of (show (-2147483648 : Int) ≤ k + 1 by omega) (show k + 1 ≤ (2147483647 : Int) by omega)]
      refine ⟨by omega, by omega, by omega, by omega, by omega, _, rfl, fun x y hx => by rw [st_na hx]; exact hI.1 x y hx, fun y h0 h1 => ?_⟩
      have ek : (k + 1 - 16).toNat = (k - 16).toNat + 1 := by omega
      have ek2 : 16 + (((k - 16).toNat : Nat) : Int) = k := by omega
      rw [ek]
      simp only [shW]
      rw [ek2]
      by_cases e : y = k
      · subst e
        rw [st_eq, if_pos rfl]
        show shN (d' 1661) y = _
        exact shN_cg hk hI.2
      · rw [st_nk e, if_neg e]
        exact hI.2 y h0 (by omega)
    · rw [if_neg hk]
      simp only [wp_ck, wp_sd, wp_lv, wp_lm, wp_some, wp_b1, wp_bd, wp_b2, wp_b3, wp_up, wp_map, w32_of (show (-2147483648 : Int) ≤ 4 * k by omega) (show 4 * k ≤ (2147483647 : Int) by omega), w32_of (show (-2147483648 : Int) ≤ 4 * k + 1 by omega) (show 4 * k + 1 ≤ (2147483647 : Int) by omega), w32_of (show (-2147483648 : Int) ≤ 4 * k + 2 by omega) (show 4 * k + 2 ≤ (2147483647 : Int) by omega), w32_of (show (-2147483648 : Int) ≤ 4 * k + 3 by omega) (show 4 * k + 3 ≤ (2147483647 : Int) by omega), w32_of (show (-2147483648 : Int) ≤ k + 1 by omega) (show k + 1 ≤ (2147483647 : Int) by omega)]
      refine ⟨by omega, by omega, by omega, by omega, by omega, _, rfl, fun x y hx => by rw [st_na hx]; exact hI.1 x y hx, fun y h0 h1 => ?_⟩
      have e0 : (k + 1 - 16).toNat = 0 := by omega
      have e1 : (k - 16).toNat = 0 := by omega
      rw [e0]
      by_cases e : y = k
      · subst e
        rw [st_eq]
        have q0 := hp y 0 k0 (by omega) (by omega) (by omega)
        rw [show 4 * y + 0 = 4 * y by omega] at q0
        rw [hI.1 1660 _ (by decide), hI.1 1660 _ (by decide), hI.1 1660 _ (by decide), hI.1 1660 _ (by decide), q0, hp y 1 k0 (by omega) (by omega) (by omega), hp y 2 k0 (by omega) (by omega) (by omega), hp y 3 k0 (by omega) (by omega) (by omega)]
        exact pack (hi y k0 (by omega))
      · rw [st_nk e]
        have := hI.2 y h0 (by omega)
        rw [e1] at this
        exact this
  · unfold fX11_digest_2f
    dsimp only
    rw [if_pos (by omega)]
    simp only [wp_ck, wp_sd, wp_lv, wp_lm, wp_some, wp_b1, wp_bd, wp_b2, wp_b3, wp_up, wp_map]
    have hK' : Kon d' := ⟨fun y h0 h1 => by rw [hI.1 1664 y (by decide)]; exact hK.1 y h0 h1, fun y h0 h1 => by rw [hI.1 1665 y (by decide)]; exact hK.2 y h0 h1⟩
    exact (wp_m178 (W := shW W0 48) hK' hI.2).mono fun z hz => ⟨z, rfl, fun x y h1 h2 h3 => (hz.1 x y h2 h3).trans (hI.1 x y h1), hz.2⟩
/-- the head's bytes -/
def Top (h : Int → Int) (d : Dt) : Prop := ∀ k j, 0 ≤ k → k < 8 → 0 ≤ j → j < 4 → d 1659 (4 * k + j) = byt (h k) j
theorem wp_m127 {d : Dt} {a b c e f : Int} {h : Int → Int} (hs : ∀ y, 0 ≤ y → y < 8 → d 1662 y = h y) : wp (fX11_write_127 d a b c e f 0) (fun d' => (∀ x y, x ≠ 1659 → ¬ (x = 1545 ∧ y = 165) → d' x y = d x y) ∧ Top h d' ∧ d' 1545 165 = w32 (d 1545 165 + 1)) := by
  unfold fX11_write_127
  refine wp_for (fun k d' => (∀ x y, x ≠ 1659 → d' x y = d x y) ∧ ∀ i j, 0 ≤ i → i < k → 0 ≤ j → j < 4 → d' 1659 (4 * i + j) = byt (h i) j) 0 8 (by omega) (fun k d' k0 k1 hI => ?_) (fun d' hI => ?_) ⟨fun _ _ _ => rfl, fun y j h0 h1 => by omega⟩
  · unfold fX11_write_127f
    dsimp only
    rw [if_neg (by omega)]
    simp only [wp_ck, wp_sd, wp_lv, wp_lm, wp_some, wp_b1, wp_bd, wp_b2, wp_b3, wp_up, wp_map, w32_of (show (-2147483648 : Int) ≤ 4 * k by omega) (show 4 * k ≤ (2147483647 : Int) by omega), w32_of (show (-2147483648 : Int) ≤ k + 1 by omega) (show k + 1 ≤ (2147483647 : Int) by omega)]
    refine ⟨⟨k0, k1⟩, (wp_lay4 (by omega) (by omega) (by omega)).mono fun z hz => ?_⟩
    subst hz
    refine ⟨_, rfl, fun x y hx => by rw [layD_na hx]; exact hI.1 x y hx, fun i j h0 h1 h2 h3 => ?_⟩
    by_cases q : i = k
    · subst q
      rw [layD_in (by omega), show 4 * i + j - 4 * i = j by omega, hI.1 1662 i (by decide), hs i k0 k1]
    · rw [layD_out (by omega)]
      exact hI.2 i j h0 (by omega) h2 h3
  · unfold fX11_write_127f
    dsimp only
    rw [if_pos (by omega)]
    simp only [wp_ck, wp_sd, wp_lv, wp_lm, wp_some, wp_b1, wp_bd, wp_b2, wp_b3, wp_up, wp_map]
    refine ⟨_, rfl, fun x y h1 h2 => ?_, fun k j h0 h1 h2 h3 => ?_, ?_⟩
    · unfold st
      rw [if_neg h2]
      exact hI.1 x y h1
    · rw [st_na (by decide)]
      exact hI.2 k j h0 h1 h2 h3
    · rw [st_eq, hI.1 1545 165 (by decide)]
theorem byt_w13 : ∀ j, 0 ≤ j → j < 4 → byt (-2147483648) j = if j = 0 then -128 else 0 := by
  intro j h0 h1
  have : j = 0 ∨ j = 1 ∨ j = 2 ∨ j = 3 := by omega
  rcases this with rfl | rfl | rfl | rfl <;> decide
theorem byt_0 : ∀ j, 0 ≤ j → j < 4 → byt 0 j = 0 := by
  intro j h0 h1
  have : j = 0 ∨ j = 1 ∨ j = 2 ∨ j = 3 := by omega
  rcases this with rfl | rfl | rfl | rfl <;> decide
theorem write_M {d : Dt} {h : Int → Int} {a b c e f : Int} (hK : Kon d) (ht : Top h d) (hh : ∀ k, 0 ≤ k → k < 8 → in32 (h k)) (ha : in32 a) (hb : in32 b) (hc : in32 c) (he : in32 e) (hf : in32 f) : wp (fX11_write d a b c e f) (fun d' => (∀ x y, ¬ (1659 ≤ x ∧ x ≤ 1663) → ¬ (x = 1545 ∧ y = 165) → d' x y = d x y) ∧ Top (shH h a b c e f) d' ∧ d' 1545 165 = w32 (d 1545 165 + 1)) := by
  unfold fX11_write fX11_write_3
  refine wp_for (fun k d' => (∀ x y, x ≠ 1660 → d' x y = d x y) ∧ ∀ y, 0 ≤ y → y < k → d' 1660 y = if y < 32 then d 1659 y else 0) 0 64 (by omega) (fun k d' k0 k1 hI => ?_) (fun d' hI => ?_) ⟨fun _ _ _ => rfl, fun y h0 h1 => by omega⟩
  · unfold fX11_write_3f
    dsimp only
    rw [if_neg (by omega)]
    by_cases hk : 32 ≤ k
    · rw [if_pos hk]
      unfold fX11_write_34
      simp only [wp_ck, wp_sd, wp_lv, wp_lm, wp_some, wp_b1, wp_bd, wp_b2, wp_b3, wp_up, wp_map, w32_of (show (-2147483648 : Int) ≤ k + 1 by omega) (show k + 1 ≤ (2147483647 : Int) by omega)]
      refine ⟨⟨k0, k1⟩, _, rfl, fun x y hx => by rw [st_na hx]; exact hI.1 x y hx, fun y h0 h1 => ?_⟩
      by_cases q : y = k
      · subst q
        rw [st_eq, if_neg (by omega)]
        rfl
      · rw [st_nk q]
        exact hI.2 y h0 (by omega)
    · rw [if_neg hk]
      unfold fX11_write_34
      simp only [wp_ck, wp_sd, wp_lv, wp_lm, wp_some, wp_b1, wp_bd, wp_b2, wp_b3, wp_up, wp_map, w32_of (show (-2147483648 : Int) ≤ k + 1 by omega) (show k + 1 ≤ (2147483647 : Int) by omega)]
      refine ⟨by omega, ⟨k0, k1⟩, _, rfl, fun x y hx => by rw [st_na hx]; exact hI.1 x y hx, fun y h0 h1 => ?_⟩
      by_cases q : y = k
      · subst q
        have g := ht (y / 4) (y % 4) (by omega) (by omega) (by omega) (by omega)
        rw [show 4 * (y / 4) + y % 4 = y by omega] at g
        have g2 := byt_in (h (y / 4)) (y % 4)
        rw [st_eq, if_pos (by omega), hI.1 1659 y (by decide), w8_of (by omega) (by omega)]
      · rw [st_nk q]
        exact hI.2 y h0 (by omega)
  · unfold fX11_write_3f
    dsimp only
    rw [if_pos (by omega)]
    simp only [wp_ck, wp_sd, wp_lv, wp_lm, wp_some, wp_b1, wp_bd, wp_b2, wp_b3, wp_up, wp_map]
    refine (wp_lay4 (by omega) (by omega) (by omega)).mono fun z1 e1 => ?_
    refine (wp_lay4 (by omega) (by omega) (by omega)).mono fun z2 e2 => ?_
    refine (wp_lay4 (by omega) (by omega) (by omega)).mono fun z3 e3 => ?_
    refine (wp_lay4 (by omega) (by omega) (by omega)).mono fun z4 e4 => ?_
    refine (wp_lay4 (by omega) (by omega) (by omega)).mono fun z5 e5 => ?_
    refine (wp_lay4 (by omega) (by omega) (by omega)).mono fun z6 e6 => ?_
    subst e1; subst e2; subst e3; subst e4; subst e5; subst e6
    generalize hD : layD _ 1660 60 416 4 = D
    have hfr : ∀ x y, x ≠ 1660 → D x y = d x y := fun x y hx => by
      rw [← hD, layD_na hx, st_na hx, layD_na hx, layD_na hx, layD_na hx, layD_na hx, layD_na hx]
      exact hI.1 x y hx
    have hK' : Kon D := ⟨fun y h0 h1 => by rw [hfr 1664 y (by decide)]; exact hK.1 y h0 h1, fun y h0 h1 => by rw [hfr 1665 y (by decide)]; exact hK.2 y h0 h1⟩
    have hi : ∀ k, 0 ≤ k → k < 16 → in32 (w0r h a b c e f k) := fun k h0 h1 => by
      unfold w0r
      by_cases q : k < 8
      · rw [if_pos q]; exact hh k h0 q
      · rw [if_neg q]
        split
        · exact ha
        · split
          · exact hb
          · split
            · exact hc
            · split
              · exact he
              · split
                · exact hf
                · unfold in32
                  split
                  · omega
                  · split <;> omega
    refine (wp_mdig (W0 := w0r h a b c e f) hK' hi (fun k j h0 h1 h2 h3 => ?_)).mono fun z7 hz => ?_
    · rw [← hD]
      unfold w0r
      by_cases q : k < 8
      · have g := ht k j h0 q h2 h3
        rw [if_pos q, layD_out (by omega), st_nk (by omega), layD_out (by omega), layD_out (by omega), layD_out (by omega), layD_out (by omega), layD_out (by omega), hI.2 _ (by omega) (by omega), if_pos (by omega)]
        exact g
      · rw [if_neg q]
        have : k = 8 ∨ k = 9 ∨ k = 10 ∨ k = 11 ∨ k = 12 ∨ k = 13 ∨ k = 14 ∨ k = 15 := by omega
        rcases this with rfl | rfl | rfl | rfl | rfl | rfl | rfl | rfl
        · rw [if_pos rfl, layD_out (by omega), st_nk (by omega), layD_out (by omega), layD_out (by omega), layD_out (by omega), layD_out (by omega), layD_in (by omega)]
          congr 1; omega
        · rw [if_neg (by decide), if_pos rfl, layD_out (by omega), st_nk (by omega), layD_out (by omega), layD_out (by omega), layD_out (by omega), layD_in (by omega)]
          congr 1; omega
        · rw [if_neg (by decide), if_neg (by decide), if_pos rfl, layD_out (by omega), st_nk (by omega), layD_out (by omega), layD_out (by omega), layD_in (by omega)]
          congr 1; omega
        · rw [if_neg (by decide), if_neg (by decide), if_neg (by decide), if_pos rfl, layD_out (by omega), st_nk (by omega), layD_out (by omega), layD_in (by omega)]
          congr 1; omega
        · rw [if_neg (by decide), if_neg (by decide), if_neg (by decide), if_neg (by decide), if_pos rfl, layD_out (by omega), st_nk (by omega), layD_in (by omega)]
          congr 1; omega
        · rw [if_neg (by decide), if_neg (by decide), if_neg (by decide), if_neg (by decide), if_neg (by decide), if_pos rfl, byt_w13 j h2 h3, layD_out (by omega)]
          by_cases e0 : j = 0
          · subst e0
            rw [if_pos rfl, show (4 * 13 + 0 : Int) = 52 from rfl, st_eq]
            rfl
          · rw [if_neg e0, st_nk (by omega), layD_out (by omega), layD_out (by omega), layD_out (by omega), layD_out (by omega), layD_out (by omega), hI.2 _ (by omega) (by omega), if_neg (by omega)]
        · rw [if_neg (by decide), if_neg (by decide), if_neg (by decide), if_neg (by decide), if_neg (by decide), if_neg (by decide), if_pos rfl, byt_0 j h2 h3, layD_out (by omega), st_nk (by omega), layD_out (by omega), layD_out (by omega), layD_out (by omega), layD_out (by omega), layD_out (by omega), hI.2 _ (by omega) (by omega), if_neg (by omega)]
        · rw [if_neg (by decide), if_neg (by decide), if_neg (by decide), if_neg (by decide), if_neg (by decide), if_neg (by decide), if_neg (by decide), layD_in (by omega)]
          congr 1; omega
    · refine (wp_m127 (h := shH h a b c e f) hz.2).mono fun z8 hy => ⟨z8, rfl, fun x y h1 h2 => ?_, hy.2.1, ?_⟩
      · rw [hy.1 x y (by omega) h2, hz.1 x y (by omega) (by omega) (by omega)]
        exact hfr x y (by omega)
      · rw [hy.2.2, hz.1 1545 165 (by decide) (by decide) (by decide), hfr 1545 165 (by decide)]
theorem shH_in {h : Int → Int} {a b c e f k : Int} : in32 (shH h a b c e f k) := in32_w _
