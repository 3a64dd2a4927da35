/-! LEVEL 3: dates and times of a law, whole -/
set_option maxRecDepth 100000
theorem g45 : isG 45 := by unfold isG; omega
theorem g43 : isG 43 := by unfold isG; omega
theorem g44 : isG 44 := by unfold isG; omega
theorem g40 : isG 40 := by unfold isG; omega
theorem g41 : isG 41 := by unfold isG; omega
theorem g47 : isG 47 := by unfold isG; omega
theorem g59 : isG 59 := by unfold isG; omega
theorem one_if {α : Type} {x y : α} : (if (1 : Int) = 0 then x else y) = y := if_neg (by decide)
theorem zer_if {α : Type} {x y : α} : (if (0 : Int) = 0 then x else y) = x := if_pos rfl
theorem bad_bx {a : Dt} {k : Dt → Int → Option (Dt × Option Int)} : bx (b2 (fX2_bad a) fun d4 _ => some (d4, none)) th k = b2 (fX2_bad a) fun d4 _ => some (d4, none) := rfl
theorem plain_both {y k e : Int} : wp (if fX12_is y k e 2000 = 0 then some (-1) else b1 (fX12_of y k e) fun x31 => some x31) (fun v => wp (if 2000 ≤ y then fX11_dayOf y k e else some (-2147483648)) (fun m => dOk v m)) := by
  by_cases h : isDt y k e 2000
  · have ml := mlen_in y k
    have hy := h.1
    have he := h.2.2
    rw [if_neg (fun z => is_X.mp z h), if_pos hy.1, wp_b1]
    refine (of_X (by omega) h.2.1 (by omega)).mono fun v hv => wp_some.mpr ?_
    exact (dayOf_M ⟨by omega, h.2⟩).mono fun m hm => Or.inr ⟨by rw [hv, hm], by rw [hv]; exact dnum_0 h⟩
  · rw [if_pos (is_X.mpr h), wp_some]
    by_cases q : 2000 ≤ y
    · rw [if_pos q, dayOf_no (fun z => h ⟨⟨q, z.1.2⟩, z.2⟩), wp_some]; exact Or.inl ⟨rfl, rfl⟩
    · rw [if_neg q, wp_some]; exact Or.inl ⟨rfl, rfl⟩
theorem cp_plain {t : Int → Int} {n : Int} {N : Nat} {a b : Dt} {i : Nat} (h : RL t n N a b i) (hs : sg t n i = 45) {g : Int} : CP (bd (fX2_take a) fun d16 => bx (fX2_number d16) th fun d18 x20 => bx (fX2_sign d18 45) th fun d22 _ => bx (fX2_number d22) th fun d26 x28 => if fX12_is g x20 x28 2000 = 0 then some (d26, some (-1)) else b1 (fX12_of g x20 x28) fun x31 => some (d26, some x31)) (fX11_takePlain b g) (Ef a b) (dtQ t n N a b i) := by
  unfold fX11_takePlain
  rw [sd_e]
  refine CP.tk (h.take (h.lt_g g45 hs)) fun x s => ?_
  show CP _ (b2 (fX11_takeNumber (nxb b)) _) _ _
  refine (cp_number s.2.2.2).bx (fun x' y' e => Ef.bx s e) (fun v1 x1 y1 q1 => ?_)
  rw [one_if, q1.2.2.1, lv_e]
  have s1 := s.trans q1.1
  refine (cp_sign s1.2.2.2 g45).bx (fun x' y' e => Ef.bx s1 e) (fun _ x2 y2 q2 => ?_)
  rw [one_if]
  have s2 := s1.trans q2.1
  refine (cp_number s2.2.2.2).bx (fun x' y' e => Ef.bx s2 e) (fun v3 x3 y3 q3 => ?_)
  rw [one_if, q3.2.2.1]
  have s3 := s2.trans q3.1
  have e35 : y3 1545 35 = b 1545 35 := by rw [q3.2.2.2.2.2, q2.2.2 35 (by decide), q1.2.2.2.2.2, nx_at (by decide)]
  obtain ⟨v, e1, m, e2, hd⟩ := plain_both (y := g) (k := v1) (e := v3)
  have eX : (if fX12_is g v1 v3 2000 = 0 then some (x3, some (-1)) else b1 (fX12_of g v1 v3) fun x31 => some (x3, some x31)) = some (x3, some v) := by
    by_cases z : fX12_is g v1 v3 2000 = 0
    · rw [if_pos z] at e1 ⊢
      cases e1; rfl
    · rw [if_neg z] at e1 ⊢
      cases h0 : fX12_of g v1 v3 with
      | none => rw [h0] at e1; cases e1
      | some u => rw [h0] at e1; cases e1; rfl
  rw [eX]
  have eM : (if 2000 ≤ g then b1 (fX11_dayOf g v1 v3) fun x16 => fX11_takePlain_64 y3 g x16 else fX11_takePlain_64 y3 g (-2147483648)) = some (st y3 1545 34 m, 1) := by
    by_cases z : 2000 ≤ g
    · rw [if_pos z] at e2 ⊢
      rw [e2]; rfl
    · rw [if_neg z] at e2 ⊢
      cases e2; rfl
  rw [eM]
  refine CP.ret ⟨i + 1 + 1 + 1 + 1, by omega, s3.trans (s3.2.2.2.keep (FM.refl.sto (by decide)) (by simp (disch := omega) only [w32_o, w64_o, w8_o, st_eq, st_na, st_nk, ck_pos, wp_sd, wp_lv, wp_lm, wp_some, wp_b1, wp_bd, wp_b2, wp_b3, wp_up, wp_map]) (by simp (disch := omega) only [w32_o, w64_o, w8_o, st_eq, st_na, st_nk, ck_pos, wp_sd, wp_lv, wp_lm, wp_some, wp_b1, wp_bd, wp_b2, wp_b3, wp_up, wp_map])), ?_, ?_⟩
  · rw [st_nk (by decide), e35]
  · rw [st_eq]; exact hd
theorem dtQ.of {t : Int → Int} {n : Int} {N : Nat} {a b x y : Dt} {i j : Nat} (s : SS t n N a b x y j) (hij : i ≤ j) (h35 : y 1545 35 = b 1545 35) {v : Int} {x' y' : Dt} (q : dtQ t n N x y j v x' y') : dtQ t n N a b i v x' y' := by
  obtain ⟨k, k0, k1, k2, k3⟩ := q
  exact ⟨k, by omega, s.trans k1, by rw [k2, h35], k3⟩
theorem cp_dtC {t : Int → Int} {n : Int} {N : Nat} {a b : Dt} {i : Nat} (h : RL t n N a b i) : CP (dtC a) (fX11_takeDate b) (Ef a b) (fun v x y => ∃ j, i < j ∧ SS t n N a b x y j ∧ y 1545 35 = sp t n i ∧ dOk v (y 1545 34)) := by
  have hr := h.sp
  unfold dtC fX11_takeDate
  rw [lv_e, hr.2.2.2.1, ck_pos (by omega), sd_e, sd_e, hr.2.2.2.2]
  have s0 : SS t n N a b a (st (st b 1545 35 (sp t n i)) 1545 34 (-2147483648)) i := h.keep ((FM.refl.sto (by decide)).sto (by decide)) (by simp (disch := omega) only [w32_o, w64_o, w8_o, st_eq, st_na, st_nk, ck_pos, wp_sd, wp_lv, wp_lm, wp_some, wp_b1, wp_bd, wp_b2, wp_b3, wp_up, wp_map]) (by simp (disch := omega) only [w32_o, w64_o, w8_o, st_eq, st_na, st_nk, ck_pos, wp_sd, wp_lv, wp_lm, wp_some, wp_b1, wp_bd, wp_b2, wp_b3, wp_up, wp_map])
  have e35 : st (st b 1545 35 (sp t n i)) 1545 34 (-2147483648) 1545 35 = sp t n i := by rw [st_nk (by decide), st_eq]
  have e34 : st (st b 1545 35 (sp t n i)) 1545 34 (-2147483648) 1545 34 = -2147483648 := st_eq _ _ _ _
  generalize st (st b 1545 35 (sp t n i)) 1545 34 (-2147483648) = B at *
  have hB := s0.2.2.2
  rw [hB.2.1.may (w := 13) (by decide) (by decide), b2_s, hB.1.isWd (w := 12) (by decide), hB.1.isWd (w := 13) (by decide)]
  have fin : ∀ {A : Option (Dt × Option Int)} {M : Option (Dt × Int)} {x y : Dt} {j : Nat}, SS t n N a b x y j → i ≤ j → y 1545 35 = sp t n i → CP A M (Ef x y) (dtQ t n N x y j) → CP A M (Ef a b) (fun v x y => ∃ j, i < j ∧ SS t n N a b x y j ∧ y 1545 35 = sp t n i ∧ dOk v (y 1545 34)) := fun {A M x y j} s hij h35 hc => hc.mono (fun x' y' e => Ef.of s e) (fun v x' y' q => by
    obtain ⟨k, k0, k1, k2, k3⟩ := q
    exact ⟨k, by omega, s.trans k1, by rw [k2, h35], k3⟩)
  by_cases q13 : wd t n i = 13
  · rw [if_pos q13, if_neg (show ¬ wd t n i = 12 by omega), if_pos q13, zer_if, one_if]
    dsimp only
    rw [one_if]
    refine CP.tk (hB.take (hB.lt_w (by decide) q13)) fun x s => ?_
    have s1 := s0.trans s
    refine (cp_number s1.2.2.2).bx (fun x' y' e => Ef.bx s1 e) (fun v1 x1 y1 q1 => ?_)
    rw [one_if, q1.2.2.1]
    have s2 := s1.trans q1.1
    have g35 : y1 1545 35 = sp t n i := by rw [q1.2.2.2.2.2, nx_at (by decide), e35]
    unfold fX11_takeDate_68
    by_cases r : 2000 ≤ v1 ∧ v1 ≤ 2099
    · rw [if_neg (fun z => in_1.mp z r)]
      obtain ⟨v, e1, hv⟩ := easter_X r
      obtain ⟨m, e2, hm⟩ := easter_M r
      rw [e1, e2, b1_s, b1_s, sd_e]
      refine CP.ret ⟨i + 1 + 1, by omega, s2.trans (s2.2.2.2.keep (FM.refl.sto (by decide)) (by simp (disch := omega) only [w32_o, w64_o, w8_o, st_eq, st_na, st_nk, ck_pos, wp_sd, wp_lv, wp_lm, wp_some, wp_b1, wp_bd, wp_b2, wp_b3, wp_up, wp_map]) (by simp (disch := omega) only [w32_o, w64_o, w8_o, st_eq, st_na, st_nk, ck_pos, wp_sd, wp_lv, wp_lm, wp_some, wp_b1, wp_bd, wp_b2, wp_b3, wp_up, wp_map])), by rw [st_nk (by decide), g35], ?_⟩
      rw [st_eq, hv, hm]
      exact Or.inr ⟨rfl, dnum_0 (eaN_in r)⟩
    · rw [if_pos (in_1.mpr r), sd_e]
      have : fX12_easter v1 = some (-1) := by unfold fX12_easter; rw [if_pos (within_1.mpr r)]
      rw [this, b1_s]
      refine CP.ret ⟨i + 1 + 1, by omega, s2.trans (s2.2.2.2.keep (FM.refl.sto (by decide)) (by simp (disch := omega) only [w32_o, w64_o, w8_o, st_eq, st_na, st_nk, ck_pos, wp_sd, wp_lv, wp_lm, wp_some, wp_b1, wp_bd, wp_b2, wp_b3, wp_up, wp_map]) (by simp (disch := omega) only [w32_o, w64_o, w8_o, st_eq, st_na, st_nk, ck_pos, wp_sd, wp_lv, wp_lm, wp_some, wp_b1, wp_bd, wp_b2, wp_b3, wp_up, wp_map])), by rw [st_nk (by decide), g35], ?_⟩
      rw [st_eq]
      exact Or.inl ⟨rfl, rfl⟩
  · simp only [if_neg q13, zer_if, if_true, hB.2.1.may (w := 12) (s := -34) (by decide) (by decide), b2_s]
    by_cases q12 : wd t n i = 12
    · simp only [if_pos q12, one_if, if_true, if_false]
      unfold fX11_takeDate_94 fX11_takeDate_119
      rw [one_if, one_if]
      refine CP.tk (hB.take (hB.lt_w (by decide) q12)) fun x s => ?_
      have s1 := s0.trans s
      exact fin s1 (by omega) (by rw [nx_at (by decide), e35]) (cp_wmy s1.2.2.2 (fun w k y hw => last_both hw))
    · simp only [if_neg q12, zer_if, if_true]
      refine (cp_number hB).bx (fun x' y' e => Ef.bx s0 e) (fun v1 x1 y1 q1 => ?_)
      rw [one_if]
      have s1 := s0.trans q1.1
      have g35 : y1 1545 35 = sp t n i := by rw [q1.2.2.2.2.2, e35]
      have hR := s1.2.2.2
      unfold fX11_takeDate_94 fX2_dateBehind
      rw [if_pos rfl, q1.2.2.1, hR.1.isSg (c := 45) (by decide)]
      have eq : (if v1 ≤ 5 then fX11_takeDate_119 y1 0 v1 else fX11_takeDate_119 y1 0 0) = fX11_takeDate_119 y1 0 (if v1 ≤ 5 then v1 else 0) := by
        by_cases z : v1 ≤ 5
        · rw [if_pos z, if_pos z]
        · rw [if_neg z, if_neg z]
      rw [eq]
      unfold fX11_takeDate_119
      rw [if_pos rfl, hR.2.1.isSg (c := 45) g45, b1_s, q1.2.2.1]
      by_cases q45 : sg t n (i + 1) = 45
      · rw [if_pos q45, if_neg (by decide), if_neg (by decide)]
        exact fin s1 (by omega) g35 (CP.tail (cp_plain hR q45))
      · rw [if_neg q45, if_pos rfl, if_pos rfl]
        exact fin s1 (by omega) g35 (cp_wmy hR (fun w k y hw => nth_both hw q1.2.1.2.2.1))
