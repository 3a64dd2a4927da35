/-! LEVEL 3: a test is read, whole -/
set_option maxRecDepth 100000
set_option maxHeartbeats 4000000
/-- both failed within a condition -/
def EC (c L W f : Int) (a b x y : Dt) : Prop := FCX c L f a x ∧ FCM W f b y ∧ x 11 0 = y 1545 30 ∧ 0 ≤ x 11 0 ∧ x 11 0 ≤ 4000
section TST2
variable {t : Int → Int} {n : Int} {N : Nat} {a b : Dt} {L c W f A : Int} {i0 : Nat} {S S' : List (Nat × Nat) → List Bool → List Lvl → Prop} {x y : Dt} {j : Nat} {D : List (Nat × Nat)}
theorem CJ.ef (h : CJ t n N a b L c W f A i0 S x y j D) {x' y' : Dt} (he : Ef x y x' y') : EC c L W f a b x' y' := by
  obtain ⟨⟨-, hFX, hFM, -, -⟩, -⟩ := h
  refine ⟨fun p q u1 u2 u3 u4 u5 u6 => ?_, fun p q u1 u2 u3 u4 u5 => ?_, he.2.2⟩
  · rw [he.1 p q (by omega) u2]; exact hFX p q u1 u2 u3 u4 u5 u6
  · rw [he.2.1 p q u1]; exact hFM p q u1 u2 u3 u4 u5
theorem CJ.jN (h : CJ t n N a b L c W f A i0 S x y j D) : (j : Int) ≤ 4001 := by
  have := h.1.1.2.1.1.2.2.2.2.2.2
  have := h.1.1.2.1.2.2
  omega
/-- behind the number of a test -/
theorem cp_test75 {q0 : Nat × Nat} {D0 : List (Nat × Nat)} (h : CJ t n N a b L c W f A i0 Sem x y j (q0 :: D0)) (hL : 15 ≤ L) (hc : L + 2 ≤ c ∧ c ≤ L + 4) (hW : 0 ≤ W ∧ W ≤ 1) {p w so nn : Int} (hp : 0 ≤ p ∧ p ≤ 4000) (hn : 0 ≤ nn) (hj : p ≤ sp t n j)
    (hw : x 10 9 = -1 → ((w = 17 ∧ so = 0 ∧ nn ≤ 150) ∨ (w = 18 ∧ so = 1 ∧ 1 ≤ nn ∧ nn ≤ 400) ∨ (w = 9 ∧ so = 2 ∧ nn < A) ∨ (w = 19 ∧ so = 3 ∧ nn ≤ 9)))
    (hroom : (∃ w z E, XC c x (flat (q0 :: D0)) E w z (par (q0 :: D0)) ∧ w + z + 2 ≤ (j : Int)) ∧ y 1570 W + 2 ≤ (j : Int)) : CP (fX2_test_75 x c p w nn) (b2 (fX11_mayWord y (-50)) fun d27 x29 => if x29 = 0 then fX11_takeTest_186 d27 W p so nn (-2147483648) else b2 (fX11_takeTime d27) fun d43 x45 => if x45 = 0 then some (d43, 0) else lv (d43 1545 34) fun x47 => fX11_takeTest_186 d43 W p so nn x47) (EC c L W f a b) (fun _ x' y' => ∃ j', j ≤ j' ∧ CJ t n N a b L c W f A i0 SemT x' y' j' (q0 :: D0)) := by
  have hR := h.1.1
  unfold fX2_test_75
  rw [hR.1.isWd (w := 20) (by decide), hR.2.1.may (w := 20) (by decide) (by decide), b2_s]
  by_cases q : wd t n j = 20
  · simp only [if_pos q, one_if]
    refine CP.tk (hR.take (hR.lt_w (by decide) q)) fun x1 s1 => ?_
    have C1 := h.ss hL hc s1 (by omega)
    refine (cp_time s1.2.2.2).bx (fun x' y' e => ?_) (fun v x2 y2 q2 => ?_)
    · rw [zer_if, wp_some]
      exact ⟨rfl, C1.ef e⟩
    · obtain ⟨j2, g, i1, i2, i3, i4⟩ := q2
      rw [one_if, lv_e]
      have C2 := C1.ss hL hc i2 (by omega)
      have f2 := i2.1
      have m2 := i2.2.1
      have f1 := s1.1
      have m1 := s1.2.1
      refine (test_fin C2 hL hc hW hp C2.jN (fun z => ?_) hn ?_).mono (fun _ _ e => e) (fun _ x' y' e => ⟨j2, by omega, e⟩)
      · have z1 : x 10 9 = -1 := by
          rcases Int.decEq (x 10 9) (-1) with r | r
          · have := (s1.2.2.1.trans i2.2.2.1) r
            exact absurd z this.1
          · exact r
        refine ⟨hw z1, Or.inr ?_⟩
        rcases i4 with ⟨-, k1, k2⟩ | ⟨-, k2, -⟩
        · exact ⟨k1, k2⟩
        · exact absurd z k2.1
      · obtain ⟨⟨w0, z0, E0, r1, r2⟩, r3⟩ := hroom
        refine ⟨⟨w0, z0, E0, (r1.cg fun p q u => f1 p q (by omega) (by omega)).cg fun p q u => f2 p q (by omega) (by omega), by omega⟩, ?_⟩
        rw [m2 _ _ (by omega), m1 _ _ (by omega)]
        omega
  · simp only [if_neg q, zer_if]
    refine (test_fin h hL hc hW hp h.jN (fun z => ⟨hw z, Or.inl ⟨rfl, rfl⟩⟩) hn hroom).mono (fun _ _ e => e) (fun _ x' y' e => ⟨j, by omega, e⟩)
theorem cp_test {q0 : Nat × Nat} {D0 : List (Nat × Nat)} (h : CJ t n N a b L c W f A i0 Sem x y j (q0 :: D0)) (hL : 15 ≤ L) (hc : L + 2 ≤ c ∧ c ≤ L + 4) (hW : 0 ≤ W ∧ W ≤ 1) (hA : 0 ≤ A ∧ A ≤ 24) (ht : wd t n j = 17 ∨ wd t n j = 18 ∨ wd t n j = 9 ∨ wd t n j = 19) : CP (fX2_test x c) (fX11_takeTest y W) (EC c L W f a b) (fun _ x' y' => ∃ j', j < j' ∧ CJ t n N a b L c W f A i0 SemT x' y' j' (q0 :: D0)) := by
  have hR := h.1.1
  have hr := hR.sp
  have hk : kd t n j = 1 := wd_kd (w := wd t n j) (by omega) rfl
  have lt := hR.lt_k (Or.inl hk)
  have hv : x 10 8 = wd t n j := hR.1.2.2.2.2.2.1 hk
  have hcA := h.2.2.2.2.2.2.2
  obtain ⟨so, hso, eM⟩ : ∃ so, ((wd t n j = 17 ∧ so = 0) ∨ (wd t n j = 18 ∧ so = 1) ∨ (wd t n j = 9 ∧ so = 2) ∨ (wd t n j = 19 ∧ so = 3)) ∧ fX11_takeTest y W = fX11_takeTest_67 y W (sp t n j) so := by
    unfold fX11_takeTest
    rw [lv_e, hr.2.2.2.1, ck_pos (by omega), lv_e, hr.2.2.2.2, hR.2.1.isWd (w := 17) (by decide) (by decide), hR.2.1.isWd (w := 18) (by decide) (by decide), hR.2.1.isWd (w := 9) (by decide) (by decide), hR.2.1.isWd (w := 19) (by decide) (by decide)]
    simp only [b1_s]
    rcases ht with q | q | q | q
    · exact ⟨0, by omega, by simp only [q, if_true, one_if]⟩
    · refine ⟨1, by omega, ?_⟩
      rw [if_neg (show ¬ wd t n j = 17 by omega), if_pos q]
      simp only [zer_if, one_if, if_true, if_false]
    · refine ⟨2, by omega, ?_⟩
      rw [if_neg (show ¬ wd t n j = 17 by omega), if_neg (show ¬ wd t n j = 18 by omega), if_pos q]
      simp only [zer_if, one_if, if_true, if_false]
    · refine ⟨3, by omega, ?_⟩
      rw [if_neg (show ¬ wd t n j = 17 by omega), if_neg (show ¬ wd t n j = 18 by omega), if_neg (show ¬ wd t n j = 9 by omega), if_pos q]
      simp only [zer_if, one_if, if_true, if_false]
  rw [eM]
  unfold fX2_test fX11_takeTest_67
  rw [lv_e, lv_e, hr.1, hv, if_pos (by omega), sd_e]
  refine CP.tk (hR.take lt) fun x1 s1 => ?_
  have C1 := h.ss hL hc s1 (by omega)
  have A1 := C1.2.2.2.2.2.2.2
  show CP _ (if so = 1 then fX11_takeTest_97 (nxb y) W (sp t n j) so 1 else fX11_takeTest_97 (nxb y) W (sp t n j) so 0) _ _
  have rest : ∀ {nn : Int} {x2 y2 : Dt}, SS t n N x1 (nxb y) x2 y2 (j + 1 + 1) → y2 1545 32 = nn → 0 ≤ nn → (x2 10 9 = -1 → ((wd t n j = 17 ∧ so = 0 ∧ nn ≤ 150) ∨ (wd t n j = 18 ∧ so = 1 ∧ 1 ≤ nn ∧ nn ≤ 400) ∨ (wd t n j = 9 ∧ so = 2 ∧ nn < A) ∨ (wd t n j = 19 ∧ so = 3 ∧ nn ≤ 9))) → CP (fX2_test_75 x2 c (sp t n j) (wd t n j) nn) (lv (y2 1545 32) fun x26 => b2 (fX11_mayWord y2 (-50)) fun d27 x29 => if x29 = 0 then fX11_takeTest_186 d27 W (sp t n j) so x26 (-2147483648) else b2 (fX11_takeTime d27) fun d43 x45 => if x45 = 0 then some (d43, 0) else lv (d43 1545 34) fun x47 => fX11_takeTest_186 d43 W (sp t n j) so x26 x47) (EC c L W f a b) (fun _ x' y' => ∃ j', j < j' ∧ CJ t n N a b L c W f A i0 SemT x' y' j' (q0 :: D0)) := fun {nn x2 y2} s2 e32 hn hw => by
    rw [lv_e, e32]
    have C2 := C1.ss hL hc s2 (by omega)
    refine (cp_test75 C2 hL hc hW hr.2.1 hn (sp_mono h.1.1.1.2.2.1.1 (by omega)) hw ?_).mono (fun _ _ e => e) (fun _ x' y' e => ?_)
    · obtain ⟨w0, z0, E0, r1, r2, -⟩ := h.2.1
      refine ⟨⟨w0, z0, E0, (r1.cg fun p q u => s1.1 p q (by omega) (by omega)).cg fun p q u => s2.1 p q (by omega) (by omega), by omega⟩, ?_⟩
      have := h.2.2.1
      rw [s2.2.1 _ _ (by omega), s1.2.1 _ _ (by omega)]
      omega
    · obtain ⟨j', k0, k1⟩ := e
      exact ⟨j', by omega, k1⟩
  have fail : ∀ x' y', Ef x1 (nxb y) x' y' → ∀ k, wp (if (0 : Int) = 0 then some (y', (0 : Int)) else k) (fun z => z.2 = 0 ∧ EC c L W f a b x' z.1) := fun x' y' e k => by
    rw [zer_if, wp_some]
    exact ⟨rfl, C1.ef e⟩
  unfold fX11_takeTest_97 fX11_takeTest_136
  rcases hso with ⟨w1, rfl⟩ | ⟨w1, rfl⟩ | ⟨w1, rfl⟩ | ⟨w1, rfl⟩
  · rw [w1] at rest ⊢
    simp +decide only [if_true, if_false]
    refine (cp_within s1.2.2.2).bx (fun x' y' e => fail x' y' e _) (fun v x2 y2 q2 => ?_)
    rw [one_if]
    refine rest q2.1 q2.2.2.1 q2.2.1.2.2.1 (fun z => Or.inl ⟨rfl, rfl, ?_⟩)
    rcases q2.2.2.2.1 with r | r
    · exact r.2
    · exact absurd z r.1
  · rw [w1] at rest ⊢
    simp +decide only [if_true, if_false]
    refine (cp_within s1.2.2.2).bx (fun x' y' e => fail x' y' e _) (fun v x2 y2 q2 => ?_)
    rw [one_if]
    refine rest q2.1 q2.2.2.1 q2.2.1.2.2.1 (fun z => Or.inr (Or.inl ⟨rfl, rfl, ?_⟩))
    rcases q2.2.2.2.1 with r | r
    · exact r
    · exact absurd z r.1
  · rw [w1] at rest ⊢
    simp +decide only [if_true, if_false]
    rw [A1.2, w32_o (by omega)]
    refine (cp_area s1.2.2.2 hA A1.1).bx (fun x' y' e => fail x' y' e _) (fun v x2 y2 q2 => ?_)
    rw [one_if]
    refine rest q2.1 q2.2.2.1 q2.2.1.2.2.1 (fun z => Or.inr (Or.inr (Or.inl ⟨rfl, rfl, ?_⟩)))
    rcases q2.2.2.2.1 with r | r
    · omega
    · exact absurd z r.1
  · rw [w1] at rest ⊢
    simp +decide only [if_true, if_false]
    refine (cp_within s1.2.2.2).bx (fun x' y' e => fail x' y' e _) (fun v x2 y2 q2 => ?_)
    rw [one_if]
    refine rest q2.1 q2.2.2.1 q2.2.1.2.2.1 (fun z => Or.inr (Or.inr (Or.inr ⟨rfl, rfl, ?_⟩)))
    rcases q2.2.2.2.1 with r | r
    · exact r.2
    · exact absurd z r.1
end TST2
