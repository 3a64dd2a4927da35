/-! LEVEL 3: the book -/
set_option maxRecDepth 100000
def byt (v j : Int) : Int := w8 (w8 (bShr v (w32 (24 - w32 (8 * j)))))
theorem bAnd_in (a b : Int) : in32 (bAnd a b) := in32_to _
theorem bShr_in (a b : Int) : in32 (bShr a b) := in32_to _
theorem byt_in (v j : Int) : -128 ≤ byt v j ∧ byt v j ≤ 127 := w8_in _
theorem bAnd_byt {v s : Int} : bAnd (w8 (w8 (bShr v s))) 255 = bAnd (bShr v s) 255 := by
  unfold bAnd
  rw [w8_w8, ← i8_i2b (bShr_in v s), show Int32.ofInt 255 = (255 : Int32) from rfl, bp_b]
theorem pack_bits (X : Int32) : ((((X >>> (nI 24 &&& 31)) &&& 255) <<< (nI 24 &&& 31)) ||| (((X >>> (nI 16 &&& 31)) &&& 255) <<< (nI 16 &&& 31)) ||| (((X >>> (nI 8 &&& 31)) &&& 255) <<< (nI 8 &&& 31)) ||| ((X >>> (nI 0 &&& 31)) &&& 255)) = X := by
  refine b_ext fun i hi => ?_
  simp only [b_or, b_shl 24 (by omega) _ hi, b_shl 16 (by omega) _ hi, b_shl 8 (by omega) _ hi, b_and, b_255]
  rcases Nat.lt_or_ge i 8 with h | h
  · rw [b_sshr 0 (by omega) X hi, if_pos (by omega), show 0 + i = i by omega]
    simp [show ¬ 24 ≤ i by omega, show ¬ 16 ≤ i by omega, show ¬ 8 ≤ i by omega, h]
  · rcases Nat.lt_or_ge i 16 with h2 | h2
    · rw [b_sshr 8 (by omega) X (show i - 8 < 32 by omega), if_pos (by omega), show 8 + (i - 8) = i by omega]
      simp [show ¬ 24 ≤ i by omega, show ¬ 16 ≤ i by omega, h, show ¬ i < 8 by omega, show i - 8 < 8 by omega]
    · rcases Nat.lt_or_ge i 24 with h3 | h3
      · rw [b_sshr 16 (by omega) X (show i - 16 < 32 by omega), if_pos (by omega), show 16 + (i - 16) = i by omega]
        simp [show ¬ 24 ≤ i by omega, h2, show ¬ i < 8 by omega, show ¬ i - 8 < 8 by omega, show i - 16 < 8 by omega]
      · rw [b_sshr 24 (by omega) X (show i - 24 < 32 by omega), if_pos (by omega), show 24 + (i - 24) = i by omega]
        simp [h3, show ¬ i < 8 by omega, show ¬ i - 8 < 8 by omega, show ¬ i - 16 < 8 by omega, show i - 24 < 8 by omega]
theorem pack {v : Int} (h : in32 v) : bOr (bOr (bOr (bShl (bAnd (byt v 0) 255) 24) (bShl (bAnd (byt v 1) 255) 16)) (bShl (bAnd (byt v 2) 255) 8)) (bAnd (byt v 3) 255) = v := by
  unfold byt
  simp only [bAnd_byt]
  rw [show w32 (24 - w32 (8 * 0)) = 24 from rfl, show w32 (24 - w32 (8 * 1)) = 16 from rfl, show w32 (24 - w32 (8 * 2)) = 8 from rfl, show w32 (24 - w32 (8 * 3)) = 0 from rfl]
  unfold bOr bShl bAnd bShr
  simp only [i32_of]
  have := pack_bits (Int32.ofInt v)
  rw [show Int32.ofInt 255 = (255 : Int32) from rfl, show Int32.ofInt 24 = nI 24 from rfl, show Int32.ofInt 16 = nI 16 from rfl, show Int32.ofInt 8 = nI 8 from rfl, show Int32.ofInt 0 = nI 0 from rfl, this, i32_to h]
theorem rot_sh {a b c : Int} (h : (Int32.ofInt b &&& 31) = (Int32.ofInt c &&& 31)) : bShl a b = bShl a c := by unfold bShl; rw [h]
theorem rot_2 (a : Int) : fJ3_rotateRight a 2 = fX11_turn a 2 := by unfold fJ3_rotateRight fX11_turn; rw [rot_sh (b := w32 (-2)) (c := w32 (32 - 2)) (by decide)]
theorem rot_6 (a : Int) : fJ3_rotateRight a 6 = fX11_turn a 6 := by unfold fJ3_rotateRight fX11_turn; rw [rot_sh (b := w32 (-6)) (c := w32 (32 - 6)) (by decide)]
theorem rot_7 (a : Int) : fJ3_rotateRight a 7 = fX11_turn a 7 := by unfold fJ3_rotateRight fX11_turn; rw [rot_sh (b := w32 (-7)) (c := w32 (32 - 7)) (by decide)]
theorem rot_11 (a : Int) : fJ3_rotateRight a 11 = fX11_turn a 11 := by unfold fJ3_rotateRight fX11_turn; rw [rot_sh (b := w32 (-11)) (c := w32 (32 - 11)) (by decide)]
theorem rot_13 (a : Int) : fJ3_rotateRight a 13 = fX11_turn a 13 := by unfold fJ3_rotateRight fX11_turn; rw [rot_sh (b := w32 (-13)) (c := w32 (32 - 13)) (by decide)]
theorem rot_17 (a : Int) : fJ3_rotateRight a 17 = fX11_turn a 17 := by unfold fJ3_rotateRight fX11_turn; rw [rot_sh (b := w32 (-17)) (c := w32 (32 - 17)) (by decide)]
theorem rot_18 (a : Int) : fJ3_rotateRight a 18 = fX11_turn a 18 := by unfold fJ3_rotateRight fX11_turn; rw [rot_sh (b := w32 (-18)) (c := w32 (32 - 18)) (by decide)]
theorem rot_19 (a : Int) : fJ3_rotateRight a 19 = fX11_turn a 19 := by unfold fJ3_rotateRight fX11_turn; rw [rot_sh (b := w32 (-19)) (c := w32 (32 - 19)) (by decide)]
theorem rot_22 (a : Int) : fJ3_rotateRight a 22 = fX11_turn a 22 := by unfold fJ3_rotateRight fX11_turn; rw [rot_sh (b := w32 (-22)) (c := w32 (32 - 22)) (by decide)]
theorem rot_25 (a : Int) : fJ3_rotateRight a 25 = fX11_turn a 25 := by unfold fJ3_rotateRight fX11_turn; rw [rot_sh (b := w32 (-25)) (c := w32 (32 - 25)) (by decide)]
/-! the hash as a function of rows -/
def sg0 (x : Int) : Int := bXor (bXor (fX11_turn x 7) (fX11_turn x 18)) (bUshr x 3)
def sg1 (x : Int) : Int := bXor (bXor (fX11_turn x 17) (fX11_turn x 19)) (bUshr x 10)
def shN (w : Int → Int) (k : Int) : Int := w32 (w32 (w32 (w (k - 16) + sg0 (w (k - 15))) + w (k - 7)) + sg1 (w (k - 2)))
def shW (w0 : Int → Int) : Nat → Int → Int
  | 0 => w0
  | n + 1 => fun y => if y = 16 + (n : Int) then shN (shW w0 n) (16 + n) else shW w0 n y
def shO (v w : Int → Int) (k : Int) : Int := w32 (w32 (w32 (w32 (v 7 + bXor (bXor (fX11_turn (v 4) 6) (fX11_turn (v 4) 11)) (fX11_turn (v 4) 25)) + bXor (bAnd (v 4) (v 5)) (bAnd (bXor (v 4) (-1)) (v 6))) + xK.getD (Int.toNat k) 0) + w k)
def shT (v : Int → Int) : Int := w32 (bXor (bXor (fX11_turn (v 0) 2) (fX11_turn (v 0) 13)) (fX11_turn (v 0) 22) + bXor (bXor (bAnd (v 0) (v 1)) (bAnd (v 0) (v 2))) (bAnd (v 1) (v 2)))
def shV (w : Int → Int) : Nat → Int → Int
  | 0 => fun y => xB.getD (Int.toNat y) 0
  | n + 1 => fun y => if y = 0 then w32 (shO (shV w n) w n + shT (shV w n)) else if y = 4 then w32 (shV w n 3 + shO (shV w n) w n) else shV w n (y - 1)
def w0r (h : Int → Int) (a b c e f : Int) : Int → Int := fun y => if y < 8 then h y else if y = 8 then a else if y = 9 then b else if y = 10 then c else if y = 11 then e else if y = 12 then f else if y = 13 then -2147483648 else if y = 14 then 0 else 416
def shH (h : Int → Int) (a b c e f : Int) : Int → Int := fun k => w32 (xB.getD (Int.toNat k) 0 + shV (shW (w0r h a b c e f) 48) 64 k)
theorem shO_cg {v v' w w' : Int → Int} {k : Int} (h : ∀ y, 0 ≤ y → y < 8 → v' y = v y) (hk : w' k = w k) : shO v' w' k = shO v w k := by
  unfold shO
  rw [h 7 (by omega) (by omega), h 4 (by omega) (by omega), h 5 (by omega) (by omega), h 6 (by omega) (by omega), hk]
theorem shT_cg {v v' : Int → Int} (h : ∀ y, 0 ≤ y → y < 8 → v' y = v y) : shT v' = shT v := by
  unfold shT
  rw [h 0 (by omega) (by omega), h 1 (by omega) (by omega), h 2 (by omega) (by omega)]
theorem shN_cg {w w' : Int → Int} {k : Int} (hk : 16 ≤ k) (h : ∀ y, 0 ≤ y → y < k → w' y = w y) : shN w' k = shN w k := by
  unfold shN
  rw [h (k - 16) (by omega) (by omega), h (k - 15) (by omega) (by omega), h (k - 7) (by omega) (by omega), h (k - 2) (by omega) (by omega)]
/-! the component's side -/
theorem wp_r302 {d : Dt} {v : Int → Int} (hv : ∀ y, 0 ≤ y → y < 8 → d 54 y = v y) : wp (fX7_round_302 d 0) (fun d' => (∀ x y, x ≠ 56 → d' x y = d x y) ∧ ∀ y, 0 ≤ y → y < 8 → d' 56 y = w32 (xB.getD (Int.toNat y) 0 + v y)) := by
  unfold fX7_round_302
  refine wp_for (fun k d' => (∀ x y, x ≠ 56 → d' x y = d x y) ∧ ∀ y, 0 ≤ y → y < k → d' 56 y = w32 (xB.getD (Int.toNat y) 0 + v y)) 0 8 (by omega) (fun k d' k0 k1 hI => ?_) (fun d' hI => ?_) ⟨fun _ _ _ => rfl, fun y h0 h1 => by omega⟩
  · unfold fX7_round_302f
    dsimp only
    rw [if_neg (by omega)]
    simp only [wp_ck, wp_sd, wp_lv, wp_lm, wp_some, wp_b1, wp_bd, wp_b2, wp_b3, wp_up, wp_map, w32_of (show (-2147483648 : Int) ≤ k + 1 by omega) (show k + 1 ≤ (2147483647 : Int) by omega)]
    refine ⟨⟨k0, k1⟩, _, rfl, fun x y hx => by rw [st_na hx]; exact hI.1 x y hx, fun y h0 h1 => ?_⟩
    by_cases e : y = k
    · subst e
      rw [st_eq, hI.1 54 y (by decide), hv y h0 (by omega)]
    · rw [st_nk e]
      exact hI.2 y h0 (by omega)
  · unfold fX7_round_302f
    dsimp only
    rw [if_pos (by omega)]
    simp only [wp_up, wp_some]
    exact ⟨_, rfl, hI⟩
theorem wp_r120 {d : Dt} {W : Int → Int} (hw : ∀ y, 0 ≤ y → y < 64 → d 55 y = W y) (hv : ∀ y, 0 ≤ y → y < 8 → d 54 y = xB.getD (Int.toNat y) 0) : wp (fX7_round_120 d 0) (fun d' => (∀ x y, x ≠ 56 → x ≠ 54 → d' x y = d x y) ∧ ∀ y, 0 ≤ y → y < 8 → d' 56 y = w32 (xB.getD (Int.toNat y) 0 + shV W 64 y)) := by
  unfold fX7_round_120
  refine wp_for (fun k d' => (∀ x y, x ≠ 54 → d' x y = d x y) ∧ ∀ y, 0 ≤ y → y < 8 → d' 54 y = shV W k.toNat y) 0 64 (by omega) (fun k d' k0 k1 hI => ?_) (fun d' hI => ?_) ⟨fun _ _ _ => rfl, fun y h0 h1 => hv y h0 h1⟩
  · unfold fX7_round_120f
    dsimp only
    rw [if_neg (by omega)]
    simp only [wp_ck, wp_sd, wp_lv, wp_some, rot_2, rot_6, rot_11, rot_13, rot_22, rot_25]
    refine ⟨⟨k0, k1⟩, ?_⟩
    have hO : w32 ((w32 ((w32 ((w32 ((d' 54 7) + (bXor (bXor (fX11_turn (d' 54 4) 6) (fX11_turn (d' 54 4) 11)) (fX11_turn (d' 54 4) 25)))) + (bXor (bAnd (d' 54 4) (d' 54 5)) (bAnd (bXor (d' 54 4) (-1)) (d' 54 6))))) + (xK.getD (Int.toNat k) 0))) + (d' 55 k)) = shO (shV W k.toNat) W k := by
      show shO (d' 54) (d' 55) k = _
      exact shO_cg hI.2 (by rw [hI.1 55 k (by decide)]; exact hw k k0 k1)
    have hT : w32 ((bXor (bXor (fX11_turn (d' 54 0) 2) (fX11_turn (d' 54 0) 13)) (fX11_turn (d' 54 0) 22)) + (bXor (bXor (bAnd (d' 54 0) (d' 54 1)) (bAnd (d' 54 0) (d' 54 2))) (bAnd (d' 54 1) (d' 54 2)))) = shT (shV W k.toNat) := by
      show shT (d' 54) = _
      exact shT_cg hI.2
    rw [hO, hT]
    unfold cd
    simp only [wp_ck, wp_sd, wp_lv, wp_lm, wp_some, wp_b1, wp_bd, wp_b2, wp_b3, wp_up, wp_map, w32_of (show (-2147483648 : Int) ≤ k + 1 by omega) (show k + 1 ≤ (2147483647 : Int) by omega)]
    have ek : (k + 1).toNat = k.toNat + 1 := by omega
    have ek2 : ((k.toNat : Nat) : Int) = k := by omega
    refine ⟨_, rfl, fun x y hx => ?_, fun y h0 h1 => ?_⟩
    · rw [st_na hx, st_na hx]
      unfold cpD
      rw [if_neg (fun q => hx q.1)]
      exact hI.1 x y hx
    · have hcp : ∀ y, 1 ≤ y → y < 8 → cpD d' 54 0 54 1 7 54 y = shV W k.toNat (y - 1) := fun y h0 h1 => by
        unfold cpD
        rw [if_pos ⟨rfl, by omega, by omega⟩]
        rw [show (0 : Int) + (y - 1) = y - 1 by omega]
        exact hI.2 (y - 1) (by omega) (by omega)
      rw [ek]
      simp only [shV]
      rw [ek2]
      by_cases e0 : y = 0
      · subst e0
        rw [st_eq, if_pos rfl]
      · rw [st_nk e0, if_neg e0]
        by_cases e4 : y = 4
        · subst e4
          rw [st_eq, if_pos rfl, hcp 4 (by omega) (by omega)]
          rfl
        · rw [st_nk e4, if_neg e4, hcp y (by omega) h1]
  · unfold fX7_round_120f
    dsimp only
    rw [if_pos (by omega)]
    simp only [wp_up]
    refine (wp_r302 (v := shV W 64) hI.2).mono fun z hz => ⟨z, rfl, fun x y h1 h2 => (hz.1 x y h1).trans (hI.1 x y h2), hz.2⟩
theorem wp_r3 {d : Dt} {W0 : Int → Int} (hw : ∀ y, 0 ≤ y → y < 16 → d 55 y = W0 y) : wp (fX7_round d) (fun d' => (∀ x y, x ≠ 54 → x ≠ 55 → x ≠ 56 → d' x y = d x y) ∧ ∀ y, 0 ≤ y → y < 8 → d' 56 y = w32 (xB.getD (Int.toNat y) 0 + shV (shW W0 48) 64 y)) := by
  unfold fX7_round fX7_round_3
  refine wp_for (fun k d' => (∀ x y, x ≠ 55 → d' x y = d x y) ∧ ∀ y, 0 ≤ y → y < k → d' 55 y = shW W0 (k - 16).toNat y) 16 64 (by omega) (fun k d' k0 k1 hI => ?_) (fun d' hI => ?_) ⟨fun _ _ _ => rfl, fun y h0 h1 => hw y h0 h1⟩
  · unfold fX7_round_3f
    dsimp only
    rw [if_neg (by omega)]
    simp only [wp_ck, wp_sd, wp_lv, wp_some, rot_7, rot_17, rot_18, rot_19, w32_of (show -2147483648 ≤ k - 15 by omega) (show k - 15 ≤ 2147483647 by omega), w32_of (show -2147483648 ≤ k - 2 by omega) (show k - 2 ≤ 2147483647 by omega), w32_of (show -2147483648 ≤ k - 16 by omega) (show k - 16 ≤ 2147483647 by omega), w32_of (show -2147483648 ≤ k - 7 by omega) (show k - 7 ≤ 2147483647 by omega), w32_of (show -2147483648 ≤ k + 1 by omega) (show k + 1 ≤ 2147483647 by omega)]
    refine ⟨by omega, by omega, by omega, by omega, by omega, _, rfl, fun x y hx => by rw [st_na hx]; exact hI.1 x y hx, fun y h0 h1 => ?_⟩
    have ek : (k + 1 - 16).toNat = (k - 16).toNat + 1 := by omega
    have ek2 : 16 + (((k - 16).toNat : Nat) : Int) = k := by omega
    rw [ek]
    simp only [shW]
    rw [ek2]
    by_cases e : y = k
    · subst e
      rw [st_eq, if_pos rfl]
      show shN (d' 55) y = _
      exact shN_cg k0 hI.2
    · rw [st_nk e, if_neg e]
      exact hI.2 y h0 (by omega)
  · unfold fX7_round_3f
    dsimp only
    rw [if_pos (by omega)]
    simp only [wp_up]
    unfold cx
    refine (wp_r120 (W := shW W0 48) (fun y h0 h1 => ?_) (fun y h0 h1 => ?_)).mono fun z hz => ⟨z, rfl, fun x y h1 h2 h3 => ?_, hz.2⟩
    · unfold cxD
      rw [if_neg (by omega)]
      exact hI.2 y h0 h1
    · unfold cxD
      rw [if_pos ⟨rfl, by omega, by omega⟩, show (0 : Int) + (y - 0) = y by omega]
    · rw [hz.1 x y h3 h1]
      unfold cxD
      rw [if_neg (fun q => h1 q.1)]
      exact hI.1 x y h2
theorem write_X (d : Dt) (a b c e f : Int) : wp (fX0_write d a b c e f) (fun d' => (∀ x y, x ≠ 54 → x ≠ 55 → x ≠ 56 → ¬ (x = 1 ∧ y = 12) → d' x y = d x y) ∧ (∀ y, 0 ≤ y → y < 8 → d' 56 y = shH (d 56) a b c e f y) ∧ d' 1 12 = w32 (d 1 12 + 1)) := by
  unfold fX0_write fX7_add cd
  simp only [wp_bd, wp_sd, wp_some]
  refine (wp_r3 (W0 := w0r (d 56) a b c e f) (fun y h0 h1 => ?_)).mono fun z hz => ⟨fun x y h1 h2 h3 h4 => ?_, fun y h0 h1 => ?_, ?_⟩
  · have hc : cpD d 56 0 55 0 8 55 y = if y < 8 then d 56 y else d 55 y := by
      unfold cpD
      by_cases q : y < 8
      · rw [if_pos ⟨rfl, by omega, by omega⟩, if_pos q, show (0 : Int) + (y - 0) = y by omega]
      · rw [if_neg (by omega), if_neg q]
    unfold w0r
    by_cases q : y < 8
    · rw [if_pos q, st_nk (by omega), st_nk (by omega), st_nk (by omega), st_nk (by omega), st_nk (by omega), st_nk (by omega), st_nk (by omega), st_nk (by omega), hc, if_pos q]
    · rw [if_neg q]
      have : y = 8 ∨ y = 9 ∨ y = 10 ∨ y = 11 ∨ y = 12 ∨ y = 13 ∨ y = 14 ∨ y = 15 := by omega
      rcases this with rfl | rfl | rfl | rfl | rfl | rfl | rfl | rfl <;> simp [st]
  · have hx : st z 1 12 (w32 (z 1 12 + 1)) x y = z x y := by
      unfold st
      rw [if_neg h4]
    rw [hx, hz.1 x y h1 h2 h3, st_na h2, st_na h2, st_na h2, st_na h2, st_na h2, st_na h2, st_na h2, st_na h2]
    unfold cpD
    rw [if_neg (fun q => h2 q.1)]
  · rw [st_na (by decide)]
    exact hz.2 y h0 h1
  · rw [st_eq, hz.1 1 12 (by decide) (by decide) (by decide), st_na (by decide), st_na (by decide), st_na (by decide), st_na (by decide), st_na (by decide), st_na (by decide), st_na (by decide), st_na (by decide)]
    rfl
