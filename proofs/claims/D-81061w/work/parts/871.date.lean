/-! LEVEL 3: dates and times of a law -/
set_option maxRecDepth 100000
def th (d : Dt) : Option (Dt × Option Int) := some (d, none)
theorem bx_bx {A : Option (Dt × Option Int)} {k k' : Dt → Int → Option (Dt × Option Int)} : bx (bx A th k) th k' = bx A th (fun d v => bx (k d v) th k') := by
  cases A with
  | none => rfl
  | some x =>
    obtain ⟨d, o⟩ := x
    cases o with
    | none => rfl
    | some v => rfl
theorem bx_bd {A : Option Dt} {k : Dt → Option (Dt × Option Int)} {k' : Dt → Int → Option (Dt × Option Int)} : bx (bd A k) th k' = bd A (fun d => bx (k d) th k') := by
  cases A with
  | none => rfl
  | some x => rfl
theorem bx_b1 {A : Option Int} {k : Int → Option (Dt × Option Int)} {k' : Dt → Int → Option (Dt × Option Int)} : bx (b1 A k) th k' = b1 A (fun d => bx (k d) th k') := by
  cases A with
  | none => rfl
  | some x => rfl
theorem bx_ite {c : Prop} [Decidable c] {A B : Option (Dt × Option Int)} {k' : Dt → Int → Option (Dt × Option Int)} : bx (if c then A else B) th k' = if c then bx A th k' else bx B th k' := by
  by_cases h : c
  · rw [if_pos h, if_pos h]
  · rw [if_neg h, if_neg h]
/-- X's date ahead of its note -/
noncomputable def dtC (d : Dt) : Option (Dt × Option Int) :=
  if fX2_isWordHere d 12 = 0 then (if fX2_isWordHere d 13 = 0 then bx (fX2_number d) th fun d4 x6 => fX2_dateBehind d4 x6 else bd (fX2_take d) fun d15 => bx (fX2_number d15) th fun d17 x19 => b1 (fX12_easter x19) fun x21 => some (d17, some x21)) else bd (fX2_take d) fun d23 => bx (fX2_oneOf d23 24 30) th fun d25 x27 => bx (fX2_number d25) th fun d29 x31 => bx (fX2_number d29) th fun d33 x35 => b1 (fX12_last x27 x31 x35) fun x37 => some (d33, some x37)
theorem date_C {d : Dt} : fX2_date d = bx (dtC d) th fun x v => fX2_date_82 x (d 10 5) v := by
  unfold fX2_date dtC
  rw [bx_ite, bx_ite, lv_e]
  simp only [bx_bx, bx_bd, bx_b1, bx_s]
  rfl
theorem CP.mayX {A : Option (Dt × Option Int)} {x : Dt × Int} {f : Dt → Int → Option (Dt × Int)} {E : Dt → Dt → Prop} {Q : Int → Dt → Dt → Prop} (h : CP A (f x.1 x.2) E Q) : CP A (b2 (some x) f) E Q := h
theorem LX.oneOf {t : Int → Int} {n : Int} {a : Dt} {i : Nat} (h : LX t n a i) {lo hi : Int} (hl : 0 ≤ lo) (hh : hi ≤ 54) : fX2_oneOf a lo hi = if lo ≤ wd t n i ∧ wd t n i ≤ hi then bd (fX2_take a) fun d7 => some (d7, some (wd t n i - lo)) else b2 (fX2_bad a) fun d4 _ => some (d4, none) := by
  obtain ⟨-, -, -, -, ⟨h5, h6, h7⟩, h8, -⟩ := h
  have w := wd_in (t := t) (n := n) (i := i)
  unfold fX2_oneOf fX2_oneOf_20
  rw [h7]
  by_cases k : kd t n i = 1
  · rw [if_pos k, h8 k, within_if]
    by_cases q : lo ≤ wd t n i ∧ wd t n i ≤ hi
    · rw [if_pos q, if_neg (by decide), if_pos q, lv_e, w32_o (by omega)]
    · rw [if_neg q, if_pos rfl, if_neg q]
  · rw [if_neg k, if_neg]
    intro q
    unfold wd at q
    rw [if_neg k] at q
    omega
theorem wkName {k : Int} (h : 0 ≤ k ∧ k < 7) : fX11_weekdayName k = -(10 + 2 * (24 + k)) := by
  unfold fX11_weekdayName fX11_weekdayName_61
  repeat' split
  all_goals omega
theorem LM.weekday {t : Int → Int} {n : Int} {N : Nat} {b : Dt} {i : Nat} (h : LM t n N b i) : fX11_takeWeekday b = some (if 24 ≤ wd t n i ∧ wd t n i ≤ 30 then (nxb b, wd t n i - 24) else (b, -1)) := by
  unfold fX11_takeWeekday fX11_takeWeekday_2
  have key : wp (loop fX11_takeWeekday_2f (b, 0)) (fun r => r = if 24 ≤ wd t n i ∧ wd t n i ≤ 30 then (nxb b, wd t n i - 24) else (b, -1)) := by
    refine wp_forX (fun k d => d = b ∧ ¬ (24 ≤ wd t n i ∧ wd t n i < 24 + k)) 0 7 (by decide) (fun k d k0 k1 hI => ?_) (fun d hI => ?_) ⟨rfl, by omega⟩
    · obtain ⟨rfl, hI⟩ := hI
      unfold fX11_takeWeekday_2f
      dsimp only
      rw [if_neg (by omega), wkName ⟨k0, k1⟩, h.may (w := 24 + k) (by omega) rfl, b2_s]
      by_cases q : wd t n i = 24 + k
      · rw [if_pos q]
        dsimp only
        rw [if_neg (by decide), up_s, wp_some]
        exact Or.inr ⟨_, rfl, by rw [if_pos (by omega), show wd t n i - 24 = k by omega]⟩
      · rw [if_neg q]
        dsimp only
        rw [if_pos rfl, lv_e, wp_some, w32_o (by omega)]
        exact Or.inl ⟨_, rfl, rfl, by omega⟩
    · obtain ⟨rfl, hI⟩ := hI
      unfold fX11_takeWeekday_2f
      dsimp only
      rw [if_pos (by decide), up_s, wp_some]
      exact ⟨_, rfl, by rw [if_neg (by omega)]⟩
  obtain ⟨r, e, hr⟩ := key
  rw [e, hr]
theorem nthV_in {g w k y : Int} (hy : 2000 ≤ y ∧ y ≤ 2099) (hk : 1 ≤ k ∧ k ≤ 12) (hw : 0 ≤ w ∧ w ≤ 6) (hg : 1 ≤ g ∧ g ≤ 6) : nthV (dB y k) (mlen y k) g w = -1 ∨ (0 ≤ nthV (dB y k) (mlen y k) g w ∧ nthV (dB y k) (mlen y k) g w ≤ 36524) := by
  have hm := mlen_in y k
  have key : ∀ e, 1 ≤ e → e ≤ mlen y k → 0 ≤ dB y k + e ∧ dB y k + e ≤ 36524 := fun e e0 e1 => by
    rw [← dnum_B]; exact dnum_0 ⟨hy, hk, e0, e1⟩
  unfold nthV
  by_cases g6 : g = 6
  · rw [if_pos g6]
    exact Or.inr (key _ (by omega) (by omega))
  · rw [if_neg g6]
    by_cases z : 1 + (w - (dB y k + 6)) % 7 + 7 * (g - 1) ≤ mlen y k
    · rw [if_pos z]
      exact Or.inr (key _ (by omega) z)
    · rw [if_neg z]
      exact Or.inl rfl
/-- the n-th weekday of a month on both sides (g of X: 1 .. 5 or 6 for the last) -/
def dOk (v m : Int) : Prop := (v = -1 ∧ m = -2147483648) ∨ (v = m ∧ 0 ≤ v ∧ v ≤ 36524)
theorem last_both {w k y : Int} (hw : 0 ≤ w ∧ w ≤ 6) : wp (fX12_last w k y) (fun v => wp (fX11_nthOf 6 w y k) (fun m => dOk v m)) := by
  by_cases h : (2000 ≤ y ∧ y ≤ 2099) ∧ 1 ≤ k ∧ k ≤ 12
  · obtain ⟨hy, hk⟩ := h
    refine (last_X hy hk hw).mono fun v hv => (nth_M hy hk hw (by decide)).mono fun m hm => ?_
    have r := nthV_in hy hk hw (g := 6) (by decide)
    subst hv
    rcases r with r | r
    · rw [if_pos r] at hm; exact Or.inl ⟨r, hm.1⟩
    · rw [if_neg (by omega)] at hm; exact Or.inr ⟨hm.1.symm, r⟩
  · unfold fX12_last fX11_nthOf fX11_nthOf_38
    rw [if_pos (is_X.mpr (fun z => h ⟨z.1, z.2.1⟩)), wp_some]
    by_cases q : 2000 ≤ y ∧ y ≤ 2099
    · rw [if_neg (fun z => in_1.mp z q), if_pos (in_1.mpr (fun z => h ⟨q, z⟩)), wp_some]; exact Or.inl ⟨rfl, rfl⟩
    · rw [if_pos (in_1.mpr q), wp_some]; exact Or.inl ⟨rfl, rfl⟩
theorem nth_both {g w k y : Int} (hw : 0 ≤ w ∧ w ≤ 6) (hg : 0 ≤ g) : wp (fX12_nth g w k y) (fun v => wp (fX11_nthOf (if g ≤ 5 then g else 0) w y k) (fun m => dOk v m)) := by
  by_cases h : (2000 ≤ y ∧ y ≤ 2099) ∧ 1 ≤ k ∧ k ≤ 12
  · obtain ⟨hy, hk⟩ := h
    by_cases g5 : 1 ≤ g ∧ g ≤ 5
    · rw [if_pos (by omega)]
      refine (nth_X hy hk hw g5).mono fun v hv => (nth_M hy hk hw (by omega)).mono fun m hm => ?_
      have r := nthV_in hy hk hw (g := g) (by omega)
      subst hv
      rcases r with r | r
      · rw [if_pos r] at hm; exact Or.inl ⟨r, hm.1⟩
      · rw [if_neg (by omega)] at hm; exact Or.inr ⟨hm.1.symm, r⟩
    · have ml := mlen_in y k
      have hd : isDt y k 1 2000 := ⟨hy, hk, by decide, by omega⟩
      unfold fX12_nth fX11_nthOf fX11_nthOf_38
      rw [if_neg (fun z => is_X.mp z hd), if_pos (within_1.mpr g5), wp_some, if_neg (fun z => in_1.mp z hy), if_neg (fun z => in_1.mp z hk), if_pos (in_1.mpr (by split <;> omega)), wp_some]
      exact Or.inl ⟨rfl, rfl⟩
  · unfold fX12_nth fX11_nthOf fX11_nthOf_38
    rw [if_pos (is_X.mpr (fun z => h ⟨z.1, z.2.1⟩)), wp_some]
    by_cases q : 2000 ≤ y ∧ y ≤ 2099
    · rw [if_neg (fun z => in_1.mp z q), if_pos (in_1.mpr (fun z => h ⟨q, z⟩)), wp_some]; exact Or.inl ⟨rfl, rfl⟩
    · rw [if_pos (in_1.mpr q), wp_some]; exact Or.inl ⟨rfl, rfl⟩
/-- what a date leaves -/
def dtQ (t : Int → Int) (n : Int) (N : Nat) (a b : Dt) (i : Nat) (v : Int) (x y : Dt) : Prop := ∃ j, i < j ∧ SS t n N a b x y j ∧ y 1545 35 = b 1545 35 ∧ dOk v (y 1545 34)
theorem Ef.bx {t : Int → Int} {n : Int} {N : Nat} {a b x y x' y' : Dt} {j : Nat} (h : SS t n N a b x y j) (h' : Ef x y x' y') {k : Option (Dt × Int)} : wp (if (0 : Int) = 0 then some (y', 0) else k) (fun z => z.2 = 0 ∧ Ef a b x' z.1) := by
  rw [if_pos rfl, wp_some]
  exact ⟨rfl, Ef.of h h'⟩
/-- weekday, month, year -/
theorem cp_wmy {t : Int → Int} {n : Int} {N : Nat} {a b : Dt} {i : Nat} (h : RL t n N a b i) {g : Int} {F : Int → Int → Int → Option Int} (hF : ∀ w k y, 0 ≤ w ∧ w ≤ 6 → wp (F w k y) (fun v => wp (fX11_nthOf g w y k) (fun m => dOk v m))) : CP (bx (fX2_oneOf a 24 30) th fun d25 x27 => bx (fX2_number d25) th fun d29 x31 => bx (fX2_number d29) th fun d33 x35 => b1 (F x27 x31 x35) fun x37 => some (d33, some x37)) (fX11_takeDate_142 b g) (Ef a b) (dtQ t n N a b i) := by
  unfold fX11_takeDate_142
  rw [h.1.oneOf (by decide) (by decide), h.2.1.weekday, b2_s]
  by_cases q : 24 ≤ wd t n i ∧ wd t n i ≤ 30
  · rw [if_pos q, if_pos q]
    dsimp only
    rw [if_pos (by omega), bx_bd]
    refine CP.tk (h.take (h.lt_w (by omega) rfl)) fun x s => ?_
    rw [bx_s]
    refine (cp_number s.2.2.2).bx (fun x' y' e => Ef.bx s e) (fun v1 x1 y1 q1 => ?_)
    rw [if_neg (by decide), q1.2.2.1, lv_e]
    have s1 := s.trans q1.1
    refine (cp_number s1.2.2.2).bx (fun x' y' e => Ef.bx s1 e) (fun v2 x2 y2 q2 => ?_)
    rw [if_neg (by decide), q2.2.2.1]
    have s2 := s1.trans q2.1
    obtain ⟨v, e1, m, e2, hd⟩ := hF (wd t n i - 24) v1 v2 (by omega)
    rw [e1, e2, b1_s, b1_s]
    refine CP.ret ⟨i + 1 + 1 + 1, by omega, s2.trans (s2.2.2.2.keep (FM.refl.sto (by decide)) (by simp (disch := omega) only [w32_o, w64_o, w8_o, st_eq, st_na, st_nk, ck_pos, wp_sd, wp_lv, wp_lm, wp_some, wp_b1, wp_bd, wp_b2, wp_b3, wp_up, wp_map]) (by simp (disch := omega) only [w32_o, w64_o, w8_o, st_eq, st_na, st_nk, ck_pos, wp_sd, wp_lv, wp_lm, wp_some, wp_b1, wp_bd, wp_b2, wp_b3, wp_up, wp_map])), ?_, ?_⟩
    · rw [st_nk (by decide), q2.2.2.2.2.2, q1.2.2.2.2.2, nx_at (by decide)]
    · rw [st_eq]; exact hd
  · rw [if_neg q, if_neg q]
    dsimp only
    rw [if_neg (by decide)]
    have := h.miss (Q := dtQ t n N a b i)
    unfold CP at this ⊢
    refine (wp_bx.mpr ?_)
    refine this.mono fun x hx => ?_
    obtain ⟨y, e, hy⟩ := hx
    rcases hy with ⟨z1, z2, z3⟩ | ⟨v, z1, z2, z3⟩
    · rw [z1]
      exact wp_some.mpr ⟨y, e, Or.inl ⟨rfl, z2, z3⟩⟩
    · obtain ⟨x1, x2⟩ := x
      dsimp only at z1
      subst z1
      exfalso
      unfold fX2_bad at this
      rw [wp_b2, wp_sd, wp_some, wp_some] at this
      obtain ⟨y', e', hy'⟩ := this
      rcases hy' with ⟨w1, w2, w3⟩ | ⟨v', w1, w2, w3⟩
      · cases e.symm.trans e'; omega
      · cases w1
