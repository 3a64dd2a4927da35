/-! LEVEL 3: weekdays, easter -/
set_option maxRecDepth 100000
theorem i32_neg_iff (x : Int32) : x.toInt < 0 ↔ x.toBitVec.msb = true := by
  rw [BitVec.msb_eq_toInt]
  exact decide_eq_true_iff.symm
theorem bXor_sg {a b : Int} (ha : in32 a) (hb : 0 ≤ b ∧ b ≤ 2147483647) : 0 ≤ bXor a b ↔ 0 ≤ a := by
  have e1 := i32_neg_iff (Int32.ofInt a ^^^ Int32.ofInt b)
  have e2 := i32_neg_iff (Int32.ofInt a)
  have e3 := i32_neg_iff (Int32.ofInt b)
  rw [Int32.toBitVec_xor, BitVec.msb_xor] at e1
  rw [i32_to ha] at e2
  rw [i32_to ⟨by omega, by omega⟩] at e3
  have b0 : (Int32.ofInt b).toBitVec.msb = false := by
    cases h : (Int32.ofInt b).toBitVec.msb with
    | false => rfl
    | true => have := e3.mpr h; omega
  rw [b0, Bool.xor_false] at e1
  have := e1.trans e2.symm
  unfold bXor
  omega
theorem tmod_pos {a b : Int} (hb : 0 < b) : Int.tmod a b = if 0 ≤ a then a % b else -((-a) % b) := by
  by_cases h : 0 ≤ a
  · rw [if_pos h, Int.tmod_eq_emod_of_nonneg h]
  · rw [if_neg h]
    have : Int.tmod (-a) b = (-a) % b := Int.tmod_eq_emod_of_nonneg (by omega)
    rw [Int.neg_tmod] at this
    omega
theorem tdiv_pos {a b : Int} (ha : 0 ≤ a) : Int.tdiv a b = a / b := Int.tdiv_eq_ediv_of_nonneg ha
theorem floorMod_7 {a : Int} (ha : in32 a) : fJ9_floorMod a 7 = some (a % 7) := by
  have h := bXor_sg (b := 7) ha (by decide)
  have ha' := ha
  unfold in32 at ha'
  unfold fJ9_floorMod
  rw [ck_pos (by decide), lv_e, tmod_pos (by decide)]
  by_cases q : 0 ≤ a
  · rw [if_pos (h.mpr q), if_pos q]
  · rw [if_neg (fun z => q (h.mp z)), if_neg q]
    by_cases r : -(-a % 7) = 0
    · rw [if_pos r]; congr 1; omega
    · rw [if_neg r, w32_o (by omega)]; congr 1; omega
theorem weekday_X {v : Int} (h : -100000 ≤ v ∧ v ≤ 100000) : fX12_weekday v = some ((v + 5) % 7) := by
  unfold fX12_weekday
  rw [w32_o (by omega), floorMod_7 ⟨by omega, by omega⟩]
  rfl
theorem weekday_M {v : Int} (h : -100000 ≤ v ∧ v ≤ 100000) : fX11_weekdayOf v = some ((v + 5) % 7) := by
  unfold fX11_weekdayOf
  rw [w32_o (by omega), floorMod_7 ⟨by omega, by omega⟩]
  rfl
/-- the day of the n-th weekday; 6: the last; -1 there is none -/
def nthV (B L n w : Int) : Int := if n = 6 then B + (L - ((B + L + 5 - w) % 7)) else if 1 + (w - (B + 6)) % 7 + 7 * (n - 1) ≤ L then B + (1 + (w - (B + 6)) % 7 + 7 * (n - 1)) else -1
def dB (y k : Int) : Int := msum y (k - 1).toNat + ybase y - 1
theorem dnum_B {y k e : Int} : dnum y k e = dB y k + e := by unfold dnum dB; omega
theorem dB_in {y k : Int} (hy : 2000 ≤ y ∧ y ≤ 2099) (hk : 1 ≤ k ∧ k ≤ 12) : -1 ≤ dB y k ∧ dB y k ≤ 36900 := by
  have a := msum_in y (k - 1).toNat
  have b := ybase_in (y := y) (by omega)
  have c : 0 ≤ ybase y := by
    unfold ybase
    split <;> omega
  unfold dB
  omega
theorem last_X {w k y : Int} (hy : 2000 ≤ y ∧ y ≤ 2099) (hk : 1 ≤ k ∧ k ≤ 12) (hw : 0 ≤ w ∧ w ≤ 6) : wp (fX12_last w k y) (fun r => r = nthV (dB y k) (mlen y k) 6 w) := by
  have hm := mlen_in y k
  have hb := dB_in hy hk
  have hd : isDt y k 1 2000 := ⟨hy, hk, by decide, by omega⟩
  unfold fX12_last
  rw [if_neg (fun q => is_X.mp q hd), lengthOf_X, wp_b1]
  refine (of_X (by omega) hk (by omega)).mono fun r hr => ?_
  subst hr
  rw [dnum_B, weekday_X (by omega), b1_s, w32_o (by omega), floorMod_7 ⟨by omega, by omega⟩, b1_s, wp_some, w32_o (by omega)]
  unfold nthV
  rw [if_pos rfl]
  omega
theorem nth_X {g w k y : Int} (hy : 2000 ≤ y ∧ y ≤ 2099) (hk : 1 ≤ k ∧ k ≤ 12) (hw : 0 ≤ w ∧ w ≤ 6) (hg : 1 ≤ g ∧ g ≤ 5) : wp (fX12_nth g w k y) (fun r => r = nthV (dB y k) (mlen y k) g w) := by
  have hm := mlen_in y k
  have hb := dB_in hy hk
  have hd : isDt y k 1 2000 := ⟨hy, hk, by decide, by omega⟩
  unfold fX12_nth
  rw [if_neg (fun q => is_X.mp q hd), if_neg (within_0.mpr hg), wp_b1]
  refine (of_X (by omega) hk (by omega)).mono fun r hr => ?_
  subst hr
  rw [dnum_B, weekday_X (by omega), b1_s, w32_o (by omega), floorMod_7 ⟨by omega, by omega⟩, b1_s, w32_o (v := g - 1) (by omega), w32_o (v := 7 * (g - 1)) (by omega), w32_o (by omega), lv_e, lengthOf_X]
  unfold nthV
  rw [if_neg (show ¬ g = 6 by omega)]
  by_cases q : mlen y k ≤ (w - (dB y k + 1 + 5) % 7) % 7 + 7 * (g - 1)
  · rw [if_pos q, wp_some, if_neg (by omega)]
  · rw [if_neg q, wp_some, w32_o (by omega), if_pos (by omega)]
    omega
def nthI (B L g w : Int) (s : Int × Int × Int) (N : Nat) : Prop := (L + 1 - s.2.2).toNat = N ∧ (1 ≤ s.2.2 ∧ s.2.2 ≤ L + 1) ∧ s.2.1 = (if s.2.2 - 1 < 1 + (w - (B + 6)) % 7 then 0 else (s.2.2 - 1 - (1 + (w - (B + 6)) % 7)) / 7 + 1) ∧ s.1 = (if g = 6 then (if s.2.2 - 1 < 1 + (w - (B + 6)) % 7 then -2147483648 else B + (1 + (w - (B + 6)) % 7) + 7 * ((s.2.2 - 1 - (1 + (w - (B + 6)) % 7)) / 7)) else (if s.2.2 - 1 < 1 + (w - (B + 6)) % 7 + 7 * (g - 1) then -2147483648 else B + (1 + (w - (B + 6)) % 7 + 7 * (g - 1))))
theorem nth_M {g w k y : Int} (hy : 2000 ≤ y ∧ y ≤ 2099) (hk : 1 ≤ k ∧ k ≤ 12) (hw : 0 ≤ w ∧ w ≤ 6) (hg : 1 ≤ g ∧ g ≤ 6) : wp (fX11_nthOf g w y k) (fun r => r = (if nthV (dB y k) (mlen y k) g w = -1 then -2147483648 else nthV (dB y k) (mlen y k) g w) ∧ (nthV (dB y k) (mlen y k) g w = -1 ∨ (0 ≤ nthV (dB y k) (mlen y k) g w ∧ nthV (dB y k) (mlen y k) g w ≤ 37000))) := by
  have hm := mlen_in y k
  have hb := dB_in hy hk
  unfold fX11_nthOf fX11_nthOf_51
  rw [if_neg (fun q => in_1.mp q hy), if_neg (fun q => in_1.mp q hk), if_neg (fun q => in_1.mp q hg)]
  generalize hB : dB y k = B at *
  refine wp_lp (fun N s => nthI B (mlen y k) g w s N) (fun N s hs => ?_) ⟨rfl, by dsimp only; omega, by dsimp only; rw [if_pos (by omega)], ?_⟩
  · obtain ⟨v4, v5, v6⟩ := s
    obtain ⟨s1, s2, s3, s4⟩ := hs
    dsimp only at s1 s2 s3 s4
    unfold fX11_nthOf_51f
    dsimp only
    rw [monthDays_M]
    by_cases q : mlen y k < v6
    · rw [if_pos q, up_s, wp_some]
      refine LQ.out ?_
      have : v6 = mlen y k + 1 := by omega
      subst this
      rw [s4]
      unfold nthV
      by_cases g6 : g = 6
      · rw [if_pos g6, if_pos g6, if_neg (by omega), if_neg (by omega)]
        omega
      · rw [if_neg g6, if_neg g6]
        by_cases z : 1 + (w - (B + 6)) % 7 + 7 * (g - 1) ≤ mlen y k
        · rw [if_pos z, if_neg (by omega), if_neg (by omega)]
          omega
        · rw [if_neg z, if_pos (by omega), if_pos rfl]
          omega
    · rw [if_neg q, wp_b1]
      refine (dayOf_M ⟨by omega, hk, by omega, by omega⟩).mono fun r hr => ?_
      subst hr
      rw [dnum_B, hB, weekday_M (by omega), b1_s]
      have go : ∀ a c, a = (if g = 6 then (if v6 < 1 + (w - (B + 6)) % 7 then -2147483648 else B + (1 + (w - (B + 6)) % 7) + 7 * ((v6 - (1 + (w - (B + 6)) % 7)) / 7)) else (if v6 < 1 + (w - (B + 6)) % 7 + 7 * (g - 1) then -2147483648 else B + (1 + (w - (B + 6)) % 7 + 7 * (g - 1)))) → c = (if v6 < 1 + (w - (B + 6)) % 7 then 0 else (v6 - (1 + (w - (B + 6)) % 7)) / 7 + 1) → LQ (ρ := Int) (fun N s => nthI B (mlen y k) g w s N) (fun r => r = (if nthV B (mlen y k) g w = -1 then -2147483648 else nthV B (mlen y k) g w) ∧ (nthV B (mlen y k) g w = -1 ∨ (0 ≤ nthV B (mlen y k) g w ∧ nthV B (mlen y k) g w ≤ 37000))) N (.inl (a, c, v6 + 1)) := fun a c ha hc => by
        refine LQ.go (n' := (mlen y k + 1 - (v6 + 1)).toNat) (by omega) ⟨rfl, by dsimp only; omega, ?_, ?_⟩
        · dsimp only
          rw [hc, show v6 + 1 - 1 = v6 by omega]
        · dsimp only
          rw [ha, show v6 + 1 - 1 = v6 by omega]
      by_cases e : (B + v6 + 5) % 7 = w
      · have s5 : v5 = (v6 - (1 + (w - (B + 6)) % 7)) / 7 := by
          rw [s3]
          split <;> omega
        rw [if_pos e, lv_e, w32_o (v := v5 + 1) (by omega)]
        by_cases g6 : g = 6
        · rw [if_pos g6, lv_e, w32_o (by omega), wp_some]
          refine go _ _ ?_ (by rw [if_neg (by omega)]; omega)
          rw [if_pos g6, if_neg (by omega)]
          omega
        · rw [if_neg g6]
          rw [if_neg g6] at s4
          by_cases z : v5 + 1 = g
          · rw [if_pos z, lv_e, w32_o (by omega), wp_some]
            refine go _ _ ?_ (by rw [if_neg (by omega)]; omega)
            rw [if_neg g6, if_neg (by omega)]
            omega
          · rw [if_neg z, lv_e, w32_o (by omega), wp_some]
            refine go _ _ ?_ (by rw [if_neg (by omega)]; omega)
            rw [if_neg g6, s4]
            split <;> split <;> omega
      · rw [if_neg e, lv_e, w32_o (by omega), wp_some]
        refine go _ _ ?_ ?_
        · rw [s4]
          by_cases g6 : g = 6
          · rw [if_pos g6, if_pos g6]
            split <;> split <;> omega
          · rw [if_neg g6, if_neg g6]
            split <;> split <;> omega
        · rw [s3]
          split <;> split <;> omega
  · dsimp only
    by_cases g6 : g = 6
    · rw [if_pos g6, if_pos (by omega)]
    · rw [if_neg g6, if_pos (by omega)]
/-- easter: its month and date in one number -/
def eaN (a1 : Int) : Int := lv (Int.tmod a1 19) fun x2 => lv (w32 (Int.tdiv a1 100)) fun x3 => lv (Int.tmod a1 100) fun x4 => lv (Int.tmod (w32 ((w32 ((w32 ((w32 ((w32 (19 * x2)) + x3)) - (w32 (Int.tdiv x3 4)))) - (w32 (Int.tdiv (w32 ((w32 (x3 - (w32 (Int.tdiv (w32 (x3 + 8)) 25)))) + 1)) 3)))) + 15)) 30) fun x5 => lv (Int.tmod (w32 ((w32 ((w32 ((w32 (32 + (w32 (2 * (Int.tmod x3 4))))) + (w32 (2 * (w32 (Int.tdiv x4 4)))))) - x5)) - (Int.tmod x4 4))) 7) fun x6 => lv (w32 (Int.tdiv (w32 ((w32 (x2 + (w32 (11 * x5)))) + (w32 (22 * x6)))) 451)) fun x7 => lv (w32 ((w32 ((w32 (x5 + x6)) - (w32 (7 * x7)))) + 114)) fun x8 => x8
theorem eaN_in {y : Int} (hy : 2000 ≤ y ∧ y ≤ 2099) : isDt y (w32 (Int.tdiv (eaN y) 31)) (w32 (Int.tmod (eaN y) 31 + 1)) 2000 := by
  have key : ∀ k : Nat, k < 100 → (w32 (Int.tdiv (eaN (2000 + k)) 31) = 3 ∨ w32 (Int.tdiv (eaN (2000 + k)) 31) = 4) ∧ 1 ≤ w32 (Int.tmod (eaN (2000 + k)) 31 + 1) ∧ w32 (Int.tmod (eaN (2000 + k)) 31 + 1) ≤ 31 ∧ (w32 (Int.tdiv (eaN (2000 + k)) 31) = 4 → w32 (Int.tmod (eaN (2000 + k)) 31 + 1) ≤ 30) := by decide +kernel
  have q := key (y - 2000).toNat (by omega)
  rw [show (2000 : Int) + ((y - 2000).toNat : Int) = y by omega] at q
  generalize w32 (Int.tdiv (eaN y) 31) = M at *
  generalize w32 (Int.tmod (eaN y) 31 + 1) = D at *
  refine ⟨hy, by omega, by omega, ?_⟩
  unfold mlen
  rcases q.1 with rfl | rfl
  · rw [if_neg (by decide), if_neg (by decide)]; omega
  · rw [if_neg (by decide), if_pos (by decide)]; exact q.2.2.2 rfl
theorem easter_X {y : Int} (hy : 2000 ≤ y ∧ y ≤ 2099) : wp (fX12_easter y) (fun r => r = dnum y (w32 (Int.tdiv (eaN y) 31)) (w32 (Int.tmod (eaN y) 31 + 1))) := by
  have e : fX12_easter y = if fX0_within y 2000 2099 = 0 then some (-1) else b1 (fX12_of y (w32 (Int.tdiv (eaN y) 31)) (w32 (Int.tmod (eaN y) 31 + 1))) fun x9 => some x9 := rfl
  have d := eaN_in hy
  have m := mlen_in y (w32 (Int.tdiv (eaN y) 31))
  rw [e, if_neg (within_0.mpr hy), wp_b1]
  exact (of_X (by omega) d.2.1 (by have := d.2.2; omega)).mono fun r hr => wp_some.mpr hr
theorem easter_M {y : Int} (hy : 2000 ≤ y ∧ y ≤ 2099) : wp (fX11_easterOf y) (fun r => r = dnum y (w32 (Int.tdiv (eaN y) 31)) (w32 (Int.tmod (eaN y) 31 + 1))) := by
  have e : fX11_easterOf y = b1 (fX11_dayOf y (w32 (Int.tdiv (eaN y) 31)) (w32 (Int.tmod (eaN y) 31 + 1))) fun x9 => some x9 := rfl
  have d := eaN_in hy
  rw [e, wp_b1]
  exact (dayOf_M ⟨by omega, d.2⟩).mono fun r hr => wp_some.mpr hr
theorem dnum_0 {y k e : Int} (h : isDt y k e 2000) : 0 ≤ dnum y k e ∧ dnum y k e ≤ 36524 := by
  obtain ⟨hy, hk, h1, h2⟩ := h
  have b := dB_in hy hk
  have key : ∀ i : Nat, i < 12 → ∀ j : Nat, j < 4 → msum (2096 + j) i + mlen (2096 + j) (i + 1) ≤ 366 - (if j = 0 then 0 else 1) := by decide +kernel
  rw [dnum_B]
  unfold dB ybase
  have ml : mlen y k = mlen (2096 + ((y % 4).toNat : Int)) k := by
    unfold mlen
    have : (Int.tmod y 4 = 0 ∧ y ≠ 1900) ↔ (Int.tmod (2096 + ((y % 4).toNat : Int)) 4 = 0 ∧ 2096 + ((y % 4).toNat : Int) ≠ 1900) := by
      rw [tmod_pos (by decide), tmod_pos (by decide), if_pos (by omega), if_pos (by omega)]
      omega
    simp only [this]
  have ms : ∀ i : Nat, msum y i = msum (2096 + ((y % 4).toNat : Int)) i := by
    intro i
    induction i with
    | zero => rfl
    | succ i ih =>
      simp only [msum]
      rw [ih]
      congr 1
      unfold mlen
      have : (Int.tmod y 4 = 0 ∧ y ≠ 1900) ↔ (Int.tmod (2096 + ((y % 4).toNat : Int)) 4 = 0 ∧ 2096 + ((y % 4).toNat : Int) ≠ 1900) := by
        rw [tmod_pos (by decide), tmod_pos (by decide), if_pos (by omega), if_pos (by omega)]
        omega
      simp only [this]
  have q := key (k - 1).toNat (by omega) (y % 4).toNat (by omega)
  rw [show (((k - 1).toNat : Nat) : Int) + 1 = k by omega, ← ml, ← ms] at q
  have r := msum_in y (k - 1).toNat
  rw [if_neg (by omega)]
  by_cases z : (y % 4).toNat = 0
  · rw [if_pos z] at q; omega
  · rw [if_neg z] at q; omega
