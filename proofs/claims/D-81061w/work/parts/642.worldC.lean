set_option maxRecDepth 100000
set_option maxHeartbeats 4000000
theorem wk_cls {args : Array Value} {s : State} (hts : ∀ w ∈ lw_all, w.before args s = true) : ∃ (dC : Nat → ClassId) (dI : Nat → Nat → Nat), ∀ (c : Nat) (q : vw_C), k_cl[c]? = some q → u_Kn s q.1 q.2.1 q.2.2 (dC c) (dI c) := by
  have h0 : ∀ c : Nat, ∃ z : ClassId × (Nat → Nat), ∀ q : vw_C, k_cl[c]? = some q → u_Kn s q.1 q.2.1 q.2.2 z.1 z.2 := by
    intro c
    match c with
    | 0 => obtain ⟨cC, iS, h⟩ := u_known (C := RX0) (T := TX0) (N := 49) hts in_X0 (hts _ q310); exact ⟨(cC, iS), fun q hq => by cases hq; exact h⟩
    | 1 => obtain ⟨cC, iS, h⟩ := u_known (C := RX1) (T := TX1) (N := 7) hts in_X1 (hts _ q318); exact ⟨(cC, iS), fun q hq => by cases hq; exact h⟩
    | 2 => obtain ⟨cC, iS, h⟩ := u_known (C := RX2) (T := TX2) (N := 17) hts in_X2 (hts _ q352); exact ⟨(cC, iS), fun q hq => by cases hq; exact h⟩
    | 3 => obtain ⟨cC, iS, h⟩ := u_known (C := RX3) (T := TX3) (N := 7) hts in_X3 (hts _ q358); exact ⟨(cC, iS), fun q hq => by cases hq; exact h⟩
    | 4 => obtain ⟨cC, iS, h⟩ := u_known (C := RX4) (T := TX4) (N := 16) hts in_X4 (hts _ q535); exact ⟨(cC, iS), fun q hq => by cases hq; exact h⟩
    | 5 => obtain ⟨cC, iS, h⟩ := u_known (C := RX5) (T := TX5) (N := 4) hts in_X5 (hts _ q541); exact ⟨(cC, iS), fun q hq => by cases hq; exact h⟩
    | 6 => obtain ⟨cC, iS, h⟩ := u_known (C := RX6) (T := TX6) (N := 8) hts in_X6 (hts _ q566); exact ⟨(cC, iS), fun q hq => by cases hq; exact h⟩
    | 7 => obtain ⟨cC, iS, h⟩ := u_known (C := RX7) (T := TX7) (N := 3) hts in_X7 (hts _ q683); exact ⟨(cC, iS), fun q hq => by cases hq; exact h⟩
    | 8 => obtain ⟨cC, iS, h⟩ := u_known (C := RX8) (T := TX8) (N := 54) hts in_X8 (hts _ q709); exact ⟨(cC, iS), fun q hq => by cases hq; exact h⟩
    | 9 => obtain ⟨cC, iS, h⟩ := u_known (C := RX9) (T := TX9) (N := 10) hts in_X9 (hts _ q900); exact ⟨(cC, iS), fun q hq => by cases hq; exact h⟩
    | 10 => obtain ⟨cC, iS, h⟩ := u_known (C := RX10) (T := TX10) (N := 6) hts in_X10 (hts _ q951); exact ⟨(cC, iS), fun q hq => by cases hq; exact h⟩
    | 11 => obtain ⟨cC, iS, h⟩ := u_known (C := RX11) (T := TX11) (N := 172) hts in_X11 (hts _ q2432); exact ⟨(cC, iS), fun q hq => by cases hq; exact h⟩
    | 12 => obtain ⟨cC, iS, h⟩ := u_known (C := RX13) (T := TX13) (N := 14) hts in_X13 (hts _ q1217); exact ⟨(cC, iS), fun q hq => by cases hq; exact h⟩
    | 13 => obtain ⟨cC, iS, h⟩ := u_known (C := RX14) (T := TX14) (N := 8) hts in_X14 (hts _ q1644); exact ⟨(cC, iS), fun q hq => by cases hq; exact h⟩
    | 14 => obtain ⟨cC, iS, h⟩ := u_known (C := RX15) (T := TX15) (N := 8) hts in_X15 (hts _ q1855); exact ⟨(cC, iS), fun q hq => by cases hq; exact h⟩
    | c + 15 => exact ⟨(0, fun _ => 0), fun q hq => by cases hq⟩
  obtain ⟨f, hf⟩ := Classical.axiomOfChoice h0
  exact ⟨fun c => (f c).1, fun c => (f c).2, hf⟩
theorem wk_arr {args : Array Value} {s : State} (ht0 : ∀ w ∈ lw_tbl, w.before args s = true) (hts : ∀ w ∈ lw_all, w.before args s = true) : ∃ dA : Nat → ClassId, ∀ t : Nat, 101 ≤ t → t ≤ 115 → ArrOfT s (dA t) (k_el t) ∧ va_RA s (dA t) (k_el t) := by
  have h0 : ∀ t : Nat, ∃ cA : ClassId, 101 ≤ t → t ≤ 115 → ArrOfT s cA (k_el t) ∧ va_RA s cA (k_el t) := by
    intro t
    by_cases h : 101 ≤ t ∧ t ≤ 115
    · obtain ⟨i, rfl⟩ : ∃ i, t = 101 + i := ⟨t - 101, by omega⟩
      match i with
      | 0 => obtain ⟨cA, kA, comp, h1, h2, h3⟩ := Cond.arrayClass_spec (hts _ q348); exact ⟨cA, fun _ _ => ⟨fun n z => ⟨fun k h => (by cases h), kA, h2, comp, h3⟩, h1⟩⟩
      | 1 => obtain ⟨cA, kA, comp, h1, h2, h3⟩ := Cond.arrayClass_spec (hts _ q347); exact ⟨cA, fun _ _ => ⟨fun n z => ⟨fun k h => (by cases h), kA, h2, comp, h3⟩, h1⟩⟩
      | 2 => obtain ⟨cA, kA, comp, h1, h2, h3⟩ := Cond.arrayClass_spec (hts _ q533); exact ⟨cA, fun _ _ => ⟨fun n z => ⟨fun k h => (by cases h), kA, h2, comp, h3⟩, h1⟩⟩
      | 3 => obtain ⟨cA, kA, comp, h1, h2, h3⟩ := Cond.arrayClass_spec (hts _ q898); exact ⟨cA, fun _ _ => ⟨fun n z => ⟨fun k h => (by cases h), kA, h2, comp, h3⟩, h1⟩⟩
      | 4 => obtain ⟨comp, cA, kA, h1, h2, h3, h4, h5⟩ := arrayOverA_spec (ht0 _ q716); exact ⟨cA, fun _ _ => ⟨fun n z => ⟨fun k h => (by cases h), kA, h3, comp, h4⟩, h5⟩⟩
      | 5 => obtain ⟨comp, cA, kA, h1, h2, h3, h4, h5⟩ := arrayOverA_spec (ht0 _ q703); exact ⟨cA, fun _ _ => ⟨fun n z => ⟨fun k h => (by cases h), kA, h3, comp, h4⟩, h5⟩⟩
      | 6 => obtain ⟨comp, cA, kA, h1, h2, h3, h4, h5⟩ := arrayOverA_spec (ht0 _ q720); exact ⟨cA, fun _ _ => ⟨fun n z => ⟨fun k h => (by cases h), kA, h3, comp, h4⟩, h5⟩⟩
      | 7 => obtain ⟨comp, cA, kA, h1, h2, h3, h4, h5⟩ := arrayOverA_spec (ht0 _ q718); exact ⟨cA, fun _ _ => ⟨fun n z => ⟨fun k h => (by cases h), kA, h3, comp, h4⟩, h5⟩⟩
      | 8 => obtain ⟨comp, cA, kA, h1, h2, h3, h4, h5⟩ := Cond.arrayOver_spec (ht0 _ q350); exact ⟨cA, fun _ _ => ⟨fun n z => ⟨fun k h => (by cases h), kA, h3, comp, h4⟩, ⟨kA, comp, h3, h4, h1, h5⟩⟩⟩
      | 9 => obtain ⟨comp, cA, kA, h1, h2, h3, h4, h5⟩ := Cond.arrayOver_spec (ht0 _ q699); exact ⟨cA, fun _ _ => ⟨fun n z => ⟨fun k h => (by cases h), kA, h3, comp, h4⟩, ⟨kA, comp, h3, h4, h1, h5⟩⟩⟩
      | 10 => obtain ⟨comp, cA, kA, h1, h2, h3, h4, h5⟩ := Cond.arrayOver_spec (ht0 _ q701); exact ⟨cA, fun _ _ => ⟨fun n z => ⟨fun k h => (by cases h), kA, h3, comp, h4⟩, ⟨kA, comp, h3, h4, h1, h5⟩⟩⟩
      | 11 => obtain ⟨comp, cA, kA, h1, h2, h3, h4, h5⟩ := Cond.arrayOver_spec (ht0 _ q705); exact ⟨cA, fun _ _ => ⟨fun n z => ⟨fun k h => (by cases h), kA, h3, comp, h4⟩, ⟨kA, comp, h3, h4, h1, h5⟩⟩⟩
      | 12 => obtain ⟨comp, cA, kA, h1, h2, h3, h4, h5⟩ := Cond.arrayOver_spec (ht0 _ q707); exact ⟨cA, fun _ _ => ⟨fun n z => ⟨fun k h => (by cases h), kA, h3, comp, h4⟩, ⟨kA, comp, h3, h4, h1, h5⟩⟩⟩
      | 13 => obtain ⟨comp, cA, kA, h1, h2, h3, h4, h5⟩ := Cond.arrayOver_spec (ht0 _ q565); exact ⟨cA, fun _ _ => ⟨fun n z => ⟨fun k h => (by cases h), kA, h3, comp, h4⟩, ⟨kA, comp, h3, h4, h1, h5⟩⟩⟩
      | 14 => obtain ⟨comp, cA, kA, h1, h2, h3, h4, h5⟩ := Cond.arrayOver_spec (ht0 _ q425); exact ⟨cA, fun _ _ => ⟨fun n z => ⟨fun k h => (by cases h), kA, h3, comp, h4⟩, ⟨kA, comp, h3, h4, h1, h5⟩⟩⟩
      | i + 15 => exact absurd h (by omega)
    · exact ⟨0, fun h1 h2 => absurd ⟨h1, h2⟩ h⟩
  obtain ⟨f, hf⟩ := Classical.axiomOfChoice h0
  exact ⟨f, hf⟩
theorem k_tys_at (w : Wd) : ∀ (k : Nat) (q : ClassId × FieldType), (k_tys w)[k]? = some q → k < 15 ∧ q = (w.2.2.2.2.1 (101 + k), k_el ((101 + k : Nat) : Int))
  | 0, q, h => by cases h; exact ⟨by decide, rfl⟩
  | 1, q, h => by cases h; exact ⟨by decide, rfl⟩
  | 2, q, h => by cases h; exact ⟨by decide, rfl⟩
  | 3, q, h => by cases h; exact ⟨by decide, rfl⟩
  | 4, q, h => by cases h; exact ⟨by decide, rfl⟩
  | 5, q, h => by cases h; exact ⟨by decide, rfl⟩
  | 6, q, h => by cases h; exact ⟨by decide, rfl⟩
  | 7, q, h => by cases h; exact ⟨by decide, rfl⟩
  | 8, q, h => by cases h; exact ⟨by decide, rfl⟩
  | 9, q, h => by cases h; exact ⟨by decide, rfl⟩
  | 10, q, h => by cases h; exact ⟨by decide, rfl⟩
  | 11, q, h => by cases h; exact ⟨by decide, rfl⟩
  | 12, q, h => by cases h; exact ⟨by decide, rfl⟩
  | 13, q, h => by cases h; exact ⟨by decide, rfl⟩
  | 14, q, h => by cases h; exact ⟨by decide, rfl⟩
  | k + 15, q, h => by cases h
theorem nest_tab {w : Cond} {A : Array Value} {U : State} (h : nestW w = true) (hw : w.before A U = true) : va_Nw w U := by
  cases w <;> first | exact va_Nw.of rfl hw | exact hw | (simp [nestW] at h; done)
def mOld : Dt := fun a k => if isSb a = true ∧ (k = 1 ∨ k = 3) then 120 else 0
/-- the world at the law's entry -/
theorem world {s : State} {b L : Nat} {xs : Nat → Int32} (ht0 : ∀ w ∈ lw_tbl, w.before #[Value.ref b] s = true) (hX : va_X b L xs s s.heap) (hbl : b < s.heap.size) (h : (Jvm.Cond.and given_1 narrow_1).before #[Value.ref b] s = true) :
    ∃ w : Wd, w.1 = s.heap ∧ w.2.1 (-1) = b ∧ w.2.2.2.2.2.1 = mOld ∧ w.2.2.2.2.2.2 = (fun _ _ => 0) ∧ KU w s := by
  have hts : ∀ w ∈ lw_all, w.before #[Value.ref b] s = true := fun w h => ht0 w (lw_all_tbl h)
  have hA : ∀ a : Nat, a < s.heap.size → ¬ (fun q => s.heap.size ≤ q) a := fun a ha h => by
    have h : s.heap.size ≤ a := h
    omega
  obtain ⟨dC, dI, hC⟩ := wk_cls hts
  obtain ⟨dA, hD⟩ := wk_arr ht0 hts
  have hs := ws_all (A := fun q => s.heap.size ≤ q) h hA
  obtain ⟨tK, hK1, hK2⟩ := wa_K (A := fun q => s.heap.size ≤ q) h ht0 hA
  obtain ⟨tB, hB1, hB2⟩ := wa_BEGIN (A := fun q => s.heap.size ≤ q) h ht0 hA
  have hCS := wa_C (A := fun q => s.heap.size ≤ q) h ht0 hA
  obtain ⟨vS, eS, hS⟩ := wa_S (A := fun q => s.heap.size ≤ q) h ht0 hA
  obtain ⟨vU, eU, hU⟩ := wa_U (A := fun q => s.heap.size ≤ q) h ht0 hA
  obtain ⟨vN, eN, hN⟩ := wa_N (A := fun q => s.heap.size ≤ q) h ht0 hA
  have h0 : ∀ i : Nat, ∃ q : Nat × Nat, i < 55 → (tmA (-(10 + 2 * (i : Int)))).eval #[Value.ref b] s none [] s = some (.ref q.1) ∧ va_O "java/lang/String" q.1 (fun q => s.heap.size ≤ q) s s.heap ∧ va_OF "java/lang/String" "coder" "B" (.int 0) q.1 (fun q => s.heap.size ≤ q) s s.heap ∧ va_OF "java/lang/String" "value" "[B" (.ref q.2) q.1 (fun q => s.heap.size ≤ q) s s.heap ∧ va_T .byte q.2 (sLen (-(10 + 2 * (i : Int)))).toNat (fun j => .int (Int32.ofInt (sAt (-(10 + 2 * (i : Int))) j))) (fun q => s.heap.size ≤ q) s s.heap := by
    intro i
    by_cases hi : i < 55
    · obtain ⟨q, t, g⟩ := hs i hi
      exact ⟨(q, t), fun _ => g⟩
    · exact ⟨(0, 0), fun h => absurd h hi⟩
  obtain ⟨ad, had⟩ := Classical.axiomOfChoice h0
  have rv : ∀ v : Value, (v = .null ∨ ∃ q, v = .ref q) → ∃ q : Nat, v = .null ∨ v = .ref q := fun v hv => by
    rcases hv with h | ⟨q, h⟩
    · exact ⟨0, Or.inl h⟩
    · exact ⟨q, Or.inr h⟩
  obtain ⟨qS, eS⟩ := rv vS eS
  obtain ⟨qU, eU⟩ := rv vU eU
  obtain ⟨qN, eN⟩ := rv vN eN
  let A : Int → Nat := fun a => if a = -1 then b else if a = -2 then tK else if a = -3 then tB else if a = -4 then qS else if a = -5 then qU else if a = -6 then qN else if a % 2 = 0 then (ad ((-a - 10) / 2).toNat).1 else (ad ((-a - 11) / 2).toNat).2
  have isx : ∀ a : Int, isS a → ∃ i : Nat, i < 55 ∧ a = -(10 + 2 * (i : Int)) := fun a ha => by
    unfold isS isSb at ha
    simp only [Bool.and_eq_true, decide_eq_true_eq] at ha
    exact ⟨((-a - 10) / 2).toNat, by omega, by omega⟩
  have aS : ∀ i : Nat, A (-(10 + 2 * (i : Int))) = (ad i).1 := fun i => by
    show (if _ then _ else _) = _
    rw [if_neg (by omega), if_neg (by omega), if_neg (by omega), if_neg (by omega), if_neg (by omega), if_neg (by omega), if_pos (by omega), show ((-(-(10 + 2 * (i : Int))) - 10) / 2).toNat = i by omega]
  have aT : ∀ i : Nat, A (-(10 + 2 * (i : Int)) - 1) = (ad i).2 := fun i => by
    show (if _ then _ else _) = _
    rw [if_neg (by omega), if_neg (by omega), if_neg (by omega), if_neg (by omega), if_neg (by omega), if_neg (by omega), if_neg (by omega), show ((-(-(10 + 2 * (i : Int)) - 1) - 11) / 2).toNat = i by omega]
  refine ⟨(s.heap, A, dC, dI, dA, mOld, fun _ _ => 0), rfl, rfl, rfl, rfl, ⟨⟨hC, fun k q hk => ?_⟩, fun q hq => ?_, ?_⟩⟩
  · obtain ⟨h1, rfl⟩ := k_tys_at _ k q hk
    exact hD (101 + k) (by omega) (by omega)
  · exact nest_tab (List.mem_filter.mp hq).2 (ht0 q (List.mem_filter.mp hq).1)
  · refine ⟨fun a ha => ?_, hK1, hB1, hK2, hB2, hCS, ⟨wr_all (ad := A) h ht0 fun i hi => ?_, fun x k hx => ?_⟩, ?_, ?_, ?_⟩
    · obtain ⟨i, hi, rfl⟩ := isx a ha
      have g := (had i hi).2
      show va_O _ (A _) _ _ _ ∧ va_OF _ _ _ _ (A _) _ _ _ ∧ va_OF _ _ _ (.ref (A _)) (A _) _ _ _ ∧ va_T _ (A _) _ _ _ _ _
      rw [aS, aT]
      exact g
    · rw [aS]
      exact (had i hi).1
    · have hx : mOld x 3 = 120 := hx
      unfold mOld at hx
      by_cases e : isSb x = true
      · exact e
      · rw [if_neg (fun q => e q.1)] at hx
        cases hx
    · rcases eS with e | e
      · exact ⟨0, by rw [e] at hS; exact hS⟩
      · exact ⟨-4, by rw [e] at hS; exact hS⟩
    · rcases eU with e | e
      · exact ⟨0, by rw [e] at hU; exact hU⟩
      · exact ⟨-5, by rw [e] at hU; exact hU⟩
    · rcases eN with e | e
      · exact ⟨0, by rw [e] at hN; exact hN⟩
      · exact ⟨-6, by rw [e] at hN; exact hN⟩
