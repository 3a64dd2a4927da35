/-! LEVEL 3: a condition is read: both loops side by side -/
set_option maxRecDepth 100000
set_option maxHeartbeats 4000000
section CND4
variable {t : Int → Int} {n : Int} {N : Nat} {a b : Dt} {L c W f A : Int} {i0 : Nat}
theorem flat_len : ∀ D : List (Nat × Nat), D.length ≤ (flat D).length + 1 := by
  intro D
  induction D with
  | nil => simp
  | cons q D ih =>
    obtain ⟨k, s⟩ := q
    cases D with
    | nil => simp
    | cons q2 D => simp only [flat_cons, List.length_append, List.length_cons] at ih ⊢; omega
theorem CJ.len {S : List (Nat × Nat) → List Bool → List Lvl → Prop} {x y : Dt} {j : Nat} {D : List (Nat × Nat)} (h : CJ t n N a b L c W f A i0 S x y j D) : D.length ≤ 4001 := by
  obtain ⟨w, z, E, hX, hb, -⟩ := h.2.1
  have l1 := hX.len
  have hz := hX.1
  have := flat_len D
  have := h.jN
  omega
theorem cond_main (hL : 15 ≤ L) (hc : L + 2 ≤ c ∧ c ≤ L + 4) (hW : 0 ≤ W ∧ W ≤ 1) (hA : 0 ≤ A ∧ A ≤ 24) : ∀ m : Nat,
    (∀ (x y : Dt) (j k s : Nat) (D0 : List (Nat × Nat)) (o nn : Int), N - j = m → CJ t n N a b L c W f A i0 Sem x y j ((k, s) :: D0) → ((((k, s) :: D0).length : Nat) : Int) = o + nn + 1 → 0 ≤ o → 0 ≤ nn → CP (XR c x nn o) (loop (fX11_takeCondition_9f W) (y, o + nn)) (EC c L W f a b) (CQ t n N a b L c W f A i0)) ∧
    (∀ (x y : Dt) (j s : Nat) (D0 : List (Nat × Nat)) (op : Int), N - j = m → CJ t n N a b L c W f A i0 SemC x y j ((0, s) :: D0) → ((((0, s) :: D0).length : Nat) : Int) = op + 1 → CP (kt (fX2_condition_22f c) (loop (fX2_condition_35f c) (x, op))) (kt (fX11_takeCondition_9f W) (loop (fX11_takeCondition_99f W) (y, op))) (EC c L W f a b) (CQ t n N a b L c W f A i0)) := by
  intro m
  induction m using Nat.strongRecOn with
  | _ m ih =>
    refine ⟨fun x y j k s D0 o nn hm h hl ho hn => ?_, fun x y j s D0 op hm h hl => ?_⟩
    · -- an operand is awaited
      have hR := h.1.1
      have hr := hR.sp
      have hjN := h.jN
      have hlen := h.len
      have hNN := hR.2.1.1.2.2.2.2.2.2
      have hst := h.2.2.1
      by_cases q16 : wd t n j = 16
      · have lt := hR.lt_w (by decide) q16
        obtain ⟨r, e1, x', rfl, h'⟩ := op_not h hL hc rfl q16 (nn := nn) (o := o) (by omega)
        rw [XR_go e1, loop_kt]
        have e2 : fX11_takeCondition_9f W (y, o + nn) = some (.inl (nxb (aS y W (-1)), o + nn)) := by
          unfold fX11_takeCondition_9f
          dsimp only
          rw [hR.2.1.isWd (w := 16) (by decide) (by decide), if_pos q16, b1_s, one_if, addStep_M hW (by omega), bd_s]
          rfl
        rw [e2, kt_in]
        exact (ih (N - (j + 1)) (by omega)).1 x' _ (j + 1) (k + 1) s D0 o nn rfl h' hl ho hn
      · by_cases q40 : sg t n j = 40
        · have lt := hR.lt_g g40 q40
          obtain ⟨r, e1, x', rfl, h'⟩ := op_opn h hL hc rfl q40 (nn := nn) (o := o) ⟨hn, ho⟩ hl
          rw [XR_go e1, loop_kt]
          have e2 : fX11_takeCondition_9f W (y, o + nn) = some (.inl (nxb (aS (if 30 < o + (nn + 1) then bl y (sp t n j) else y) W (-2)), o + (nn + 1))) := by
            unfold fX11_takeCondition_9f fX11_takeCondition_69
            dsimp only
            rw [hR.2.1.isWd (w := 16) (by decide) (by decide), if_neg q16, b1_s, zer_if, hR.2.1.isSg g40, if_pos q40, b1_s, one_if, w32_o (by omega), lv_e, lv_e, hr.2.2.2.1, ck_pos (by omega), hr.2.2.2.2, blame_M, bd_s]
            by_cases z : 30 < o + (nn + 1)
            · rw [if_neg (by omega), if_pos z, addStep_M hW (by rw [bl_at (by omega)]; omega), bd_s, show o + nn + 1 = o + (nn + 1) by omega]
              rfl
            · rw [if_pos (by omega), if_neg z, addStep_M hW (by omega), bd_s, show o + nn + 1 = o + (nn + 1) by omega]
              rfl
          rw [e2, kt_in]
          refine (ih (N - (j + 1)) (by omega)).1 x' _ (j + 1) 0 0 ((k, s) :: D0) o (nn + 1) rfl h' ?_ ho (by omega)
          rw [List.length_cons]
          omega
        · -- a test
          have eX : XR c x nn o = kt (fX2_condition_22f c) (bx (if fX2_isTest x = 0 then b2 (fX2_bad x) fun d25 x27 => some (d25, none) else bx (fX2_test x c) (fun d19 => some (d19, none)) fun d19 x21 => bd (fX2_turns d19 c) fun d23 => some (d23, some nn)) (fun d12 => some (.inr (d12, none))) fun d12 x14 => lv (w32 (o + x14)) fun x16 => fX2_condition_35 d12 c x16) := by
            unfold XR fX2_operand_2
            rw [loop_kt]
            unfold fX2_operand_2f
            dsimp only
            rw [hR.1.isWd (w := 16) (by decide), if_neg q16, zer_if, hR.1.isSg (c := 40) (by decide), if_neg q40, zer_if, kt_up]
          have eM : loop (fX11_takeCondition_9f W) (y, o + nn) = kt (fX11_takeCondition_9f W) (b2 (fX11_takeTest y W) fun d9 x11 => if x11 = 0 then up (some (d9, 0)) else fX11_takeCondition_99 d9 W (o + nn)) := by
            rw [loop_kt]
            congr 1
            unfold fX11_takeCondition_9f
            dsimp only
            rw [hR.2.1.isWd (w := 16) (by decide) (by decide), if_neg q16, b1_s, zer_if, hR.2.1.isSg g40, if_neg q40, b1_s, zer_if]
          rw [eX, eM, isTest_X hR.1]
          by_cases qt : wd t n j = 17 ∨ wd t n j = 18 ∨ wd t n j = 9 ∨ wd t n j = 19
          · rw [if_pos qt, one_if]
            obtain ⟨⟨x1, o1⟩, e1, ⟨y1, r1⟩, e2, hr2⟩ := cp_test h hL hc hW hA qt
            rw [e1, e2, b2_s]
            dsimp only at hr2 ⊢
            rcases hr2 with ⟨rfl, rfl, hE⟩ | ⟨v, rfl, rfl, j', j0, C1⟩
            · rw [zer_if, bx_n, bx_n, kt_out, up_s, kt_out]
              exact CP.bad hE
            · have j'N := C1.1.1.2.1.2.2
              obtain ⟨x2, e3, C2⟩ := C1.turns hL hc
              rw [one_if, bx_s, e3, bd_s, bx_s, lv_e, w32_o (by omega)]
              exact (ih (N - j') (by omega)).2 x2 y1 j' s D0 (o + nn) rfl C2 hl
          · rw [if_neg qt, zer_if]
            have eT : fX11_takeTest y W = b2 (fX11_miss y) fun d48 x50 => ck (x50 = 0 ∨ x50 = 1) (some (d48, x50)) := by
              unfold fX11_takeTest
              rw [lv_e, hr.2.2.2.1, ck_pos (by omega), lv_e, hR.2.1.isWd (w := 17) (by decide) (by decide), hR.2.1.isWd (w := 18) (by decide) (by decide), hR.2.1.isWd (w := 9) (by decide) (by decide), hR.2.1.isWd (w := 19) (by decide) (by decide), if_neg (show ¬ wd t n j = 17 by omega), if_neg (show ¬ wd t n j = 18 by omega), if_neg (show ¬ wd t n j = 9 by omega), if_neg (show ¬ wd t n j = 19 by omega)]
              simp only [b1_s, zer_if, if_true]
              rfl
            rw [eT]
            obtain ⟨⟨x1, o1⟩, e1, ⟨y1, r1⟩, e2, hr2⟩ := hR.miss (Q := fun _ _ _ => False)
            rw [e1, e2, b2_s]
            dsimp only at hr2 ⊢
            rcases hr2 with ⟨rfl, rfl, hE⟩ | ⟨v, rfl, rfl, hF⟩
            · rw [zer_if, bx_n, kt_out, up_s, kt_out]
              exact CP.bad (h.ef hE)
            · exact hF.elim
    · -- an operand is there
      have hR := h.1.1
      have hr := hR.sp
      have hjN := h.jN
      have hlen := h.len
      have hNN := hR.2.1.1.2.2.2.2.2.2
      have hst := h.2.2.1
      have hop : 0 ≤ op ∧ op ≤ 4001 := by rw [List.length_cons] at hl hlen; omega
      by_cases qc : 0 < op ∧ sg t n j = 41
      · obtain ⟨⟨k', s'⟩, D2, rfl⟩ : ∃ q D2, D0 = q :: D2 := by
          cases D0 with
          | nil => simp at hl; omega
          | cons q D2 => exact ⟨q, D2, rfl⟩
        have lt := hR.lt_g g41 qc.2
        obtain ⟨r, e1, x', rfl, h'⟩ := cond_close h hL hc ⟨qc.1, hop.2⟩ qc.2
        have e2 : fX11_takeCondition_99f W (y, op) = some (.inl (nxb (aS y W (-3)), op - 1)) := by
          unfold fX11_takeCondition_99f
          dsimp only
          rw [if_neg (by omega), hR.2.1.isSg g41, if_pos qc.2, b1_s, one_if, addStep_M hW (by omega), bd_s, w32_o (by omega), lv_e, show op + -1 = op - 1 by omega]
          rfl
        rw [loop_kt (f := fX2_condition_35f c), e1, loop_kt (f := fX11_takeCondition_99f W), e2, kt_in, kt_in]
        refine (ih (N - (j + 1)) (by omega)).2 x' _ (j + 1) s' D2 (op - 1) rfl h' ?_
        simp only [List.length_cons] at hl ⊢
        omega
      · have e1 : loop (fX2_condition_35f c) (x, op) = fX2_condition_78 x c op := by
          rw [loop_kt]
          have : fX2_condition_35f c (x, op) = up (fX2_condition_78 x c op) := by
            unfold fX2_condition_35f
            dsimp only
            by_cases z : op ≤ 0
            · rw [if_pos z]
            · rw [if_neg z, hR.1.isSg (c := 41) (by decide), if_neg (fun w => qc ⟨by omega, w⟩), zer_if]
          rw [this, kt_up]
        have e2 : loop (fX11_takeCondition_99f W) (y, op) = fX11_takeCondition_135 y W op := by
          rw [loop_kt]
          have : fX11_takeCondition_99f W (y, op) = up (fX11_takeCondition_135 y W op) := by
            unfold fX11_takeCondition_99f
            dsimp only
            by_cases z : op ≤ 0
            · rw [if_pos z]
            · rw [if_neg z, hR.2.1.isSg g41, if_neg (fun w => qc ⟨by omega, w⟩), b1_s, zer_if]
          rw [this, kt_up]
        rw [e1, e2]
        unfold fX2_condition_78 fX11_takeCondition_135 fX2_condition_101 fX11_takeCondition_174 fX11_takeCondition_187
        rw [hR.1.isWd (w := 15) (by decide), hR.1.isWd (w := 14) (by decide), hR.2.1.isWd (w := 15) (by decide) (by decide), hR.2.1.isWd (w := 14) (by decide) (by decide), b1_s, b1_s]
        have XR0 : ∀ x' : Dt, loop (fX2_condition_22f c) (x', op, 1) = XR c x' 0 op := fun x' => by
          rw [loop_kt]
          unfold XR
          congr 1
        by_cases q15 : wd t n j = 15
        · have lt := hR.lt_w (by decide) q15
          obtain ⟨x', ex, s', h'⟩ := cond_and h hL hc q15
          simp only [if_pos q15, if_neg (show ¬ wd t n j = 14 by omega), one_if, zer_if, addStep_M hW (show 0 ≤ y 1570 W ∧ y 1570 W ≤ 4001 by omega), bd_s, ex, kt_in, XR0, if_true, if_false]
          have := (ih (N - (j + 1)) (by omega)).1 x' (nxb (aS y W (-4))) (j + 1) 0 s' D0 op 0 rfl h' (by rw [List.length_cons] at hl ⊢; omega) hop.1 (by omega)
          rw [Int.add_zero] at this
          exact this
        · by_cases q14 : wd t n j = 14
          · have lt := hR.lt_w (by decide) q14
            obtain ⟨x', ex, h'⟩ := cond_or h hL hc q14
            simp only [if_pos q14, if_neg q15, one_if, zer_if, addStep_M hW (show 0 ≤ y 1570 W ∧ y 1570 W ≤ 4001 by omega), bd_s, ex, kt_in, XR0, if_true, if_false]
            have := (ih (N - (j + 1)) (by omega)).1 x' (nxb (aS y W (-5))) (j + 1) 0 2 D0 op 0 rfl h' (by rw [List.length_cons] at hl ⊢; omega) hop.1 (by omega)
            rw [Int.add_zero] at this
            exact this
          · simp only [if_neg q14, if_neg q15, zer_if, if_true, kt_in, kt_up]
            have eL : loop (fX2_condition_22f c) (x, op, 0) = if op ≤ 0 then bd (fX2_joins x c) fun d7 => some (d7, some 0) else b2 (fX2_bad x) fun d9 x11 => some (d9, none) := by
              rw [loop_kt]
              unfold fX2_condition_22f
              dsimp only
              rw [zer_if, kt_up]
            rw [eL]
            by_cases z : op ≤ 0
            · have o0 : op = 0 := by omega
              have : D0 = [] := by
                cases D0 with
                | nil => rfl
                | cons _ _ => simp only [List.length_cons] at hl; omega
              subst this
              rw [if_pos z, if_pos o0]
              refine CP.tk (cond_end h hL hc) fun x' h' => ?_
              exact CP.ret ⟨j, h'⟩
            · rw [if_neg z, if_neg (by omega)]
              obtain ⟨⟨x1, o1⟩, e1, ⟨y1, r1⟩, e2, hr2⟩ := hR.miss' (Q := fun _ _ _ => False)
              rw [e1, e2, b2_s]
              dsimp only at hr2 ⊢
              rcases hr2 with ⟨rfl, rfl, hE⟩ | ⟨v, rfl, rfl, hF⟩
              · rw [zer_if]
                exact CP.bad (h.ef hE)
              · exact hF.elim
end CND4
