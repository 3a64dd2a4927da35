/-! LEVEL 3: the days of a law -/
set_option maxRecDepth 100000
set_option maxHeartbeats 4000000
theorem nt_st {d : Dt} {a k v g p : Int} (h : ¬ (a = 10 ∧ k = 9)) : nt (st d a k v) g p = st (nt d g p) a k v := by
  unfold nt
  have e : st d a k v 10 9 = d 10 9 := by unfold st; rw [if_neg (fun z => h ⟨z.1.symm, z.2.symm⟩)]
  rw [e]
  split
  · exact st_cm (fun z => h z)
  · rfl
section DYS
variable {t : Int → Int} {n : Int} {N : Nat} {L A : Int} {a b : Dt} {i : Nat}
/-- so many days are read; v: M's last one -/
def PD (L k v : Int) (x y : Dt) : Prop := (∀ q, 0 ≤ q → q < k → x (L + 1) q = y 1576 q ∧ 0 ≤ x (L + 1) q ∧ x (L + 1) q ≤ 36524 ∧ (q + 1 < k → x (L + 1) q ≤ x (L + 1) (q + 1))) ∧ v = (if k = 0 then -2147483648 else x (L + 1) (k - 1))
/-- the days' frames: the reader's own and the days -/
def FDX (L : Int) (a x : Dt) : Prop := ∀ p q, ¬ (p = 10 ∧ 5 ≤ q ∧ q ≤ 9) → p ≠ 11 → ¬ (p = L + 1 ∧ 0 ≤ q ∧ q < 4) → x p q = a p q
def FDM (b y : Dt) : Prop := ∀ p q, ¬ (p = 1545 ∧ 29 ≤ q ∧ q ≤ 35) → ¬ (p = 1576 ∧ 0 ≤ q ∧ q < 4) → y p q = b p q
def DJ (t : Int → Int) (n : Int) (N : Nat) (L : Int) (a b : Dt) (i : Nat) (k v : Int) (x y : Dt) (j : Nat) : Prop := RL t n N x y j ∧ i ≤ j ∧ FDX L a x ∧ FDM b y ∧ Wm a x ∧ (Bl x (sp t n j) ∨ PD L k v x y)
theorem DJ.ef {k v : Int} {x y x' y' : Dt} {j : Nat} (hL : 15 ≤ L) (h : DJ t n N L a b i k v x y j) (he : Ef x y x' y') : EL L a b x' y' := by
  refine ⟨fun p q u1 u2 u3 u4 u5 => ?_, fun p q u1 u2 u3 u4 u5 u6 u7 => ?_, he.2.2⟩
  · rw [he.1 p q (by omega) u2]; exact h.2.2.1 p q (by omega) u2 (by omega)
  · rw [he.2.1 p q (by omega)]; exact h.2.2.2.1 p q (by omega) (by omega)
theorem DJ.ss {k v : Int} {x y x' y' : Dt} {j j' : Nat} (hL : 15 ≤ L) (h : DJ t n N L a b i k v x y j) (hs : SS t n N x y x' y' j') (hj : j ≤ j') (hk : 0 ≤ k ∧ k ≤ 4) : DJ t n N L a b i k v x' y' j' := by
  obtain ⟨h1, h2, h3, h4, h5, h6⟩ := h
  obtain ⟨s1, s2, s3, s4⟩ := hs
  refine ⟨s4, by omega, fun p q u1 u2 u3 => by rw [s1 p q u1 u2]; exact h3 p q u1 u2 u3, fun p q u1 u2 => by rw [s2 p q u1]; exact h4 p q u1 u2, h5.trans s3, ?_⟩
  rcases h6 with r | r
  · exact Or.inl (r.mono s3 (sp_mono h1.1.2.2.1.1 hj))
  · refine Or.inr ⟨fun q q0 q1 => ?_, ?_⟩
    · have := r.1 q q0 q1
      rw [s1 _ _ (by omega) (by omega), s2 _ _ (by omega), s1 _ (q + 1) (by omega) (by omega)]
      exact this
    · rw [r.2, s1 _ (k - 1) (by omega) (by omega)]
theorem cp_days (h : RL t n N a b i) (hL : 15 ≤ L) (h10 : a 10 10 = L) : CP (fX2_days a) (fX11_takeDays b) (EL L a b) (fun _ x y => ∃ j v, i < j ∧ DJ t n N L a b i 4 v x y j) := by
  unfold fX2_days fX2_days_2 fX11_takeDays fX11_takeDays_5
  refine CP.lp (fun m s u => ∃ j v k, m = (4 - k).toNat ∧ (0 ≤ k ∧ k ≤ 4) ∧ (k = 0 ∨ i < j) ∧ s.2 = k ∧ u.2.2 = k ∧ u.2.1 = v ∧ DJ t n N L a b i k v s.1 u.1 j) (fun m s u hJ => ?_) (m := 4) ⟨i, -2147483648, 0, rfl, by decide, Or.inl rfl, rfl, rfl, rfl, h, Nat.le_refl _, fun _ _ _ _ _ => rfl, fun _ _ _ _ => rfl, Wm.refl, Or.inr ⟨fun q q0 q1 => by omega, rfl⟩⟩
  obtain ⟨x, k'⟩ := s
  obtain ⟨y, v', k''⟩ := u
  obtain ⟨j, v, k, rfl, hk, hij, e1, e2, e3, hD⟩ := hJ
  dsimp only at e1 e2 e3 hD
  subst e1; subst e2; subst e3
  generalize hkk : k'' = k at *
  generalize hvv : v' = v at *
  clear hkk hvv
  unfold fX2_days_2f fX11_takeDays_5f
  dsimp only
  by_cases q4 : 4 ≤ k
  · have : k = 4 := by omega
    subst this
    rw [if_pos (by decide), if_pos (by decide)]
    exact CL.ret ⟨j, v, by omega, hD⟩
  · rw [if_neg q4, if_neg q4]
    have body : ∀ (x y : Dt) (j : Nat), DJ t n N L a b i k v x y j → CL (fX2_days_17 x k) (fX11_takeDays_25 y v k) (EL L a b) (fun _ x y => ∃ j v, i < j ∧ DJ t n N L a b i 4 v x y j) (fun s' u' => ∃ m', m' < (4 - k).toNat ∧ ∃ j v k, m' = (4 - k).toNat ∧ (0 ≤ k ∧ k ≤ 4) ∧ (k = 0 ∨ i < j) ∧ s'.2 = k ∧ u'.2.2 = k ∧ u'.2.1 = v ∧ DJ t n N L a b i k v s'.1 u'.1 j) := fun x y j hD => by
      have hR := hD.1
      have hr := hR.sp
      have x10 : x 10 10 = L := by rw [hD.2.2.1 _ _ (by omega) (by omega) (by omega)]; exact h10
      unfold fX2_days_17 fX11_takeDays_25
      rw [lv_e, lv_e, x10, ck_pos (by omega), hr.1]
      refine CL.bx (cp_time hR) (fun x' y' e => ?_) (fun w x2 y2 q2 => ?_)
      · rw [zer_if, up_s, wp_some]
        exact ⟨_, rfl, hD.ef hL e⟩
      · obtain ⟨j2, g, i1, i2, i3, i4⟩ := q2
        have D2 := hD.ss hL i2 (by omega) hk
        have hR2 := D2.1
        have hr2 := hR2.sp
        have x210 : x2 10 10 = L := by rw [i2.1 _ _ (by omega) (by omega)]; exact x10
        have spj : sp t n j ≤ sp t n j2 := sp_mono h.1.2.2.1.1 (by omega)
        rw [one_if, ck_pos (by omega), sd_e, i3]
        -- the places behind
        have fin : ∀ (x3 y3 : Dt), DJ t n N L a b i (k + 1) (y2 1545 34) x3 (st y3 1576 k (y2 1545 34)) j2 → y3 1545 34 = y2 1545 34 → CL (bd (some x3) fun d14 => lv (w32 (k + 1)) fun x16 => some (Sum.inl (d14, x16))) (fX11_takeDays_50 y3 k) (EL L a b) (fun _ x y => ∃ j v, i < j ∧ DJ t n N L a b i 4 v x y j) (fun s' u' => ∃ m', m' < (4 - k).toNat ∧ ∃ j v k, m' = (4 - k).toNat ∧ (0 ≤ k ∧ k ≤ 4) ∧ (k = 0 ∨ i < j) ∧ s'.2 = k ∧ u'.2.2 = k ∧ u'.2.1 = v ∧ DJ t n N L a b i k v s'.1 u'.1 j) := fun x3 y3 D3 e34 => by
          unfold fX11_takeDays_50
          rw [bd_s, lv_e, lv_e, ck_pos (by omega), sd_e, lv_e, w32_o (by omega), e34]
          have ij := hD.2.1
          exact CL.go ⟨(4 - (k + 1)).toNat, by omega, j2, y2 1545 34, k + 1, rfl, by omega, Or.inr (by omega), rfl, rfl, rfl, D3⟩
        -- the states with the days kept
        have keep : ∀ (x3 y3 : Dt) (d : Int), SS t n N x2 y2 x3 y3 j2 → (Bl x3 (sp t n j2) ∨ (PD L k v x2 y2 ∧ (w = d ∧ 0 ≤ w ∧ w ≤ 36524) ∧ (k = 0 ∨ x2 (L + 1) (k - 1) ≤ w))) → DJ t n N L a b i (k + 1) d (st x3 (L + 1) k w) (st y3 1576 k d) j2 := fun x3 y3 d s3 hcase => by
          have ex : ∀ p q, ¬ (p = L + 1 ∧ q = k) → st x3 (L + 1) k w p q = x3 p q := fun p q u => by unfold st; rw [if_neg u]
          have ey : ∀ p q, ¬ (p = 1576 ∧ q = k) → st y3 1576 k d p q = y3 p q := fun p q u => by unfold st; rw [if_neg u]
          refine ⟨s3.2.2.2.cg2 (fun p q u => ex _ _ (by omega)) (fun p q u => ey _ _ (by omega)), D2.2.1, fun p q u1 u2 u3 => ?_, fun p q u1 u2 => ?_, fun q => ?_, ?_⟩
          · rw [ex _ _ (by omega), s3.1 p q u1 u2]; exact D2.2.2.1 p q u1 u2 u3
          · rw [ey _ _ (by omega), s3.2.1 p q u1]; exact D2.2.2.2.1 p q u1 u2
          · rw [ex 10 9 (by omega)]; exact (D2.2.2.2.2.1.trans s3.2.2.1) q
          · rcases hcase with r | ⟨r1, r2, r3⟩
            · refine Or.inl ⟨?_, ?_⟩
              · rw [ex 10 9 (by omega)]; exact r.1
              · rw [ex 10 9 (by omega)]; exact r.2
            · refine Or.inr ⟨fun q q0 q1 => ?_, ?_⟩
              · by_cases z : q = k
                · subst z
                  rw [st_eq, st_eq]
                  exact ⟨r2.1, r2.2.1, r2.2.2, fun z => by omega⟩
                · have := r1.1 q q0 (by omega)
                  rw [ex _ q (by omega), ey _ q (by omega), s3.1 _ _ (by omega) (by omega), s3.2.1 _ _ (by omega)]
                  refine ⟨this.1, this.2.1, this.2.2.1, fun z2 => ?_⟩
                  by_cases z3 : q + 1 = k
                  · rw [z3, st_eq]
                    rcases r3 with r3 | r3
                    · omega
                    · rw [show q = k - 1 by omega]; exact r3
                  · rw [ex _ _ (by omega), s3.1 _ _ (by omega) (by omega)]
                    exact this.2.2.2 (by omega)
              · rw [if_neg (by omega), show k + 1 - 1 = k by omega, st_eq]
                exact r2.1.symm
        -- by cases
        have blm : Bl x2 (sp t n j) → CL (if k = 0 then fX2_days_68 (st x2 (L + 1) k w) k (sp t n j) 1 else lv (st x2 (L + 1) k w 10 10) fun x17 => ck (x17 ≠ 0) <| lv (st x2 (L + 1) k w 10 10) fun x20 => ck (x20 ≠ 0) <| lv (w32 (k - 1)) fun x23 => ck (0 ≤ x23 ∧ x23 < 4) <| (if (st x2 (L + 1) k w (x17 + 1) k) < (st x2 (L + 1) k w (x20 + 1) x23) then fX2_days_68 (st x2 (L + 1) k w) k (sp t n j) 0 else fX2_days_68 (st x2 (L + 1) k w) k (sp t n j) 1)) (if v ≤ y2 1545 34 then fX11_takeDays_50 y2 k else bd (fX11_blame y2 (sp t n j)) fun d12 => fX11_takeDays_50 d12 k) (EL L a b) (fun _ x y => ∃ j v, i < j ∧ DJ t n N L a b i 4 v x y j) (fun s' u' => ∃ m', m' < (4 - k).toNat ∧ ∃ j v k, m' = (4 - k).toNat ∧ (0 ≤ k ∧ k ≤ 4) ∧ (k = 0 ∨ i < j) ∧ s'.2 = k ∧ u'.2.2 = k ∧ u'.2.1 = v ∧ DJ t n N L a b i k v s'.1 u'.1 j) := fun hb => by
          have hb' : Bl (st x2 (L + 1) k w) (sp t n j) := by
            unfold Bl
            rw [st_na (by omega)]
            exact hb
          have e68 : ∀ g, fX2_days_68 (st x2 (L + 1) k w) k (sp t n j) g = bd (some (st x2 (L + 1) k w)) fun d14 => lv (w32 (k + 1)) fun x16 => some (Sum.inl (d14, x16)) := fun g => by
            unfold fX2_days_68
            rw [note_X, nt_bl hb']
          have D3 := keep x2 y2 (y2 1545 34) (SS.refl hR2) (Or.inl (hb.mono Wm.refl spj))
          have eM : (if v ≤ y2 1545 34 then fX11_takeDays_50 y2 k else bd (fX11_blame y2 (sp t n j)) fun d12 => fX11_takeDays_50 d12 k) = fX11_takeDays_50 y2 k := by
            rw [blame_M, bl_bl hb hR2.2.2, bd_s]
            split <;> rfl
          rw [eM]
          by_cases z : k = 0
          · rw [if_pos z, e68]
            exact fin _ _ D3 rfl
          · rw [if_neg z, lv_e, lv_e, st_na (by omega), x210, ck_pos (by omega), ck_pos (by omega), lv_e, w32_o (by omega), ck_pos (by omega)]
            by_cases c : st x2 (L + 1) k w (L + 1) k < st x2 (L + 1) k w (L + 1) (k - 1)
            · rw [if_pos c, e68]
              exact fin _ _ D3 rfl
            · rw [if_neg c, e68]
              exact fin _ _ D3 rfl
        rcases hD.2.2.2.2.2 with hb0 | hp0
        · exact blm (hb0.mono i2.2.2.1 (Int.le_refl _))
        · rcases i4 with ⟨-, k1, k2, k3⟩ | ⟨-, k2, k3, k4⟩
          · have hp : PD L k v x2 y2 := by
              refine ⟨fun q q0 q1 => ?_, ?_⟩
              · have := hp0.1 q q0 q1
                rw [i2.1 _ _ (by omega) (by omega), i2.2.1 _ _ (by omega), i2.1 _ (q + 1) (by omega) (by omega)]
                exact this
              · rw [hp0.2, i2.1 _ (k - 1) (by omega) (by omega)]
            have hv := hp.2
            rw [← k1]
            by_cases z : k = 0
            · rw [if_pos z] at hv
              rw [if_pos z, if_pos (by omega)]
              unfold fX2_days_68
              rw [note_X, nt_1]
              refine fin _ _ ?_ rfl
              rw [← k1]
              exact keep x2 y2 w (SS.refl hR2) (Or.inr ⟨hp, ⟨rfl, k2, k3⟩, Or.inl z⟩)
            · rw [if_neg z] at hv
              rw [if_neg z, lv_e, lv_e, st_na (by omega), x210, ck_pos (by omega), ck_pos (by omega), lv_e, w32_o (by omega), ck_pos (by omega), st_eq, st_nk (by omega)]
              unfold fX2_days_68
              by_cases c : w < x2 (L + 1) (k - 1)
              · rw [if_pos c, if_neg (by omega), note_X, blame_M, bd_s, nt_st (by omega)]
                have nb := hR2.nb hr.2.1
                refine fin _ _ ?_ (bl_at (by decide))
                rw [← k1]
                exact keep _ _ w nb.1 (Or.inl (nb.2.mono Wm.refl spj))
              · rw [if_neg c, if_pos (by omega), note_X, nt_1]
                refine fin _ _ ?_ rfl
                rw [← k1]
                exact keep x2 y2 w (SS.refl hR2) (Or.inr ⟨hp, ⟨rfl, k2, k3⟩, Or.inr (by omega)⟩)
          · exact blm k2
    by_cases q0 : k ≤ 0
    · rw [if_pos q0, if_pos q0]
      exact body x y j hD
    · rw [if_neg q0, if_neg q0]
      refine CL.bx (cp_sign hD.1 g44) (fun x' y' e => ?_) (fun _ x1 y1 q1 => ?_)
      · rw [zer_if, up_s, wp_some]
        exact ⟨_, rfl, hD.ef hL e⟩
      · rw [one_if]
        exact body x1 y1 (j + 1) (hD.ss hL q1.1 (by omega) hk)
end DYS
