set_option maxRecDepth 100000
set_option maxHeartbeats 4000000
theorem cl_ {a b : Cond} {args : Array Value} {s : State} (h : (Cond.and a b).before args s = true) : a.before args s = true := by
  rw [Cond.before_and, Bool.and_eq_true] at h
  exact h.1
theorem cr_ {a b : Cond} {args : Array Value} {s : State} (h : (Cond.and a b).before args s = true) : b.before args s = true := by
  rw [Cond.before_and, Bool.and_eq_true] at h
  exact h.2
def tmA (a : Int) : Term := Term.string "ElectionHouse$Reader" (26 - a).toNat
def strAt (args : Array Value) (s : State) (A : Nat → Prop) (a : Int) : Prop := ∃ q t : Nat, (tmA a).eval args s none [] s = some (.ref q) ∧ va_O "java/lang/String" q A s s.heap ∧ va_OF "java/lang/String" "coder" "B" (.int 0) q A s s.heap ∧ va_OF "java/lang/String" "value" "[B" (.ref t) q A s s.heap ∧ va_T .byte t (sLen a).toNat (fun j => .int (Int32.ofInt (sAt a j))) A s s.heap
theorem str_of {args : Array Value} {s : State} {A : Nat → Prop} {a : Int} {tm : Term} {N : Nat} (ht : tmA a = tm) (hl : (sLen a).toNat = N) (hex : (Cond.exactly tm "java/lang/String").before args s = true) (hco : (Cond.eq (.field tm "java/lang/String" "coder" "B") (.int 0)).before args s = true) (har : (Cond.arrayOf (.field tm "java/lang/String" "value" "[B") .byte).before args s = true)
    (hle : (Term.length (.field tm "java/lang/String" "value" "[B")).eval args s none [] s = some (.int (Int32.ofNat N))) (hel : ∀ j : Nat, j < N → (Term.elem (.field tm "java/lang/String" "value" "[B") (.int (Int32.ofNat j))).eval args s none [] s = some (.int (Int32.ofInt (sAt a j)))) (hA : ∀ a : Nat, a < s.heap.size → ¬ A a) : strAt args s A a := by
  subst ht
  subst hl
  have hN : (sLen a).toNat < 2 ^ 31 := by
    have := @sLen_in a
    omega
  obtain ⟨q, c, cA, kA, q1, q2, q3, q4, q5, q6, -⟩ := Cond.exactly_spec (args := args) (first := s) (o := none) (s := s) (idx := []) (t := tmA a) (cls := "java/lang/String") hex
  obtain ⟨t, ht, hT⟩ := va_Tof (f := fun j => .int (Int32.ofInt (sAt a j))) (A := A) hN har hle hel hA
  exact ⟨q, t, q1, ⟨cA, q3, q5, by rw [q6]; exact q2, hA q (Array.getElem?_eq_some_iff.mp q3).1⟩, vk_OFof q1 (va_eqt hco) hA, vk_OFof q1 ht hA, hT⟩
theorem ws_0 {args : Array Value} {s : State} {A : Nat → Prop} (h : (Jvm.Cond.and given_1 narrow_1).before args s = true) (hA : ∀ a : Nat, a < s.heap.size → ¬ A a) : strAt args s A (-10) := by
  refine str_of (N := 4) (tm := (Jvm.Term.string "ElectionHouse$Reader" 36)) rfl rfl (cr_ (cl_ (cr_ (cr_ (cr_ (cr_ (cr_ (cr_ (cl_ (cl_ (cr_ h))))))))))) (cl_ (cr_ (cr_ (cr_ (cr_ (cr_ (cr_ (cr_ (cl_ (cl_ (cr_ h))))))))))) (cr_ (cr_ (cr_ (cr_ (cr_ (cr_ (cr_ (cr_ (cl_ (cl_ (cr_ h))))))))))) (va_eqt (cl_ (cl_ (cl_ (cl_ (cl_ (cl_ (cl_ (cr_ (cl_ (cr_ h))))))))))) (fun j hj => ?_) hA
  match j, hj with
  | 0, _ => exact (va_eqt (cl_ (cr_ (cl_ (cl_ (cl_ (cl_ (cl_ (cl_ (cr_ (cl_ (cr_ h)))))))))))).trans (congrArg (fun z => some (Value.int z)) (show (68 : Int32) = Int32.ofInt (sAt (-10) ((0 : Nat) : Int)) by decide))
  | 1, _ => exact (va_eqt (cr_ (cr_ (cl_ (cl_ (cl_ (cl_ (cl_ (cl_ (cr_ (cl_ (cr_ h)))))))))))).trans (congrArg (fun z => some (Value.int z)) (show (65 : Int32) = Int32.ofInt (sAt (-10) ((1 : Nat) : Int)) by decide))
  | 2, _ => exact (va_eqt (cl_ (cr_ (cl_ (cl_ (cl_ (cl_ (cl_ (cr_ (cl_ (cr_ h))))))))))).trans (congrArg (fun z => some (Value.int z)) (show (89 : Int32) = Int32.ofInt (sAt (-10) ((2 : Nat) : Int)) by decide))
  | 3, _ => exact (va_eqt (cl_ (cr_ (cr_ (cl_ (cl_ (cl_ (cl_ (cl_ (cr_ (cl_ (cr_ h)))))))))))).trans (congrArg (fun z => some (Value.int z)) (show (83 : Int32) = Int32.ofInt (sAt (-10) ((3 : Nat) : Int)) by decide))
  | j + 4, hj => exact absurd hj (by omega)
theorem ws_1 {args : Array Value} {s : State} {A : Nat → Prop} (h : (Jvm.Cond.and given_1 narrow_1).before args s = true) (hA : ∀ a : Nat, a < s.heap.size → ¬ A a) : strAt args s A (-12) := by
  refine str_of (N := 3) (tm := (Jvm.Term.string "ElectionHouse$Reader" 38)) rfl rfl (cr_ (cr_ (cr_ (cl_ (cl_ (cl_ (cl_ (cl_ (cr_ (cl_ (cr_ h))))))))))) (cl_ (cl_ (cr_ (cl_ (cl_ (cl_ (cl_ (cr_ (cl_ (cr_ h)))))))))) (cl_ (cr_ (cl_ (cr_ (cl_ (cl_ (cl_ (cl_ (cr_ (cl_ (cr_ h))))))))))) (va_eqt (cr_ (cr_ (cl_ (cr_ (cl_ (cl_ (cl_ (cl_ (cr_ (cl_ (cr_ h)))))))))))) (fun j hj => ?_) hA
  match j, hj with
  | 0, _ => exact (va_eqt (cl_ (cr_ (cr_ (cl_ (cl_ (cl_ (cl_ (cr_ (cl_ (cr_ h))))))))))).trans (congrArg (fun z => some (Value.int z)) (show (69 : Int32) = Int32.ofInt (sAt (-12) ((0 : Nat) : Int)) by decide))
  | 1, _ => exact (va_eqt (cl_ (cr_ (cr_ (cr_ (cl_ (cl_ (cl_ (cl_ (cr_ (cl_ (cr_ h)))))))))))).trans (congrArg (fun z => some (Value.int z)) (show (86 : Int32) = Int32.ofInt (sAt (-12) ((1 : Nat) : Int)) by decide))
  | 2, _ => exact (va_eqt (cr_ (cr_ (cr_ (cr_ (cl_ (cl_ (cl_ (cl_ (cr_ (cl_ (cr_ h)))))))))))).trans (congrArg (fun z => some (Value.int z)) (show (69 : Int32) = Int32.ofInt (sAt (-12) ((2 : Nat) : Int)) by decide))
  | j + 3, hj => exact absurd hj (by omega)
theorem ws_2 {args : Array Value} {s : State} {A : Nat → Prop} (h : (Jvm.Cond.and given_1 narrow_1).before args s = true) (hA : ∀ a : Nat, a < s.heap.size → ¬ A a) : strAt args s A (-14) := by
  refine str_of (N := 4) (tm := (Jvm.Term.string "ElectionHouse$Reader" 40)) rfl rfl (cl_ (cl_ (cl_ (cr_ (cl_ (cl_ (cl_ (cr_ (cl_ (cr_ h)))))))))) (cl_ (cr_ (cl_ (cl_ (cr_ (cl_ (cl_ (cl_ (cr_ (cl_ (cr_ h))))))))))) (cr_ (cr_ (cl_ (cl_ (cr_ (cl_ (cl_ (cl_ (cr_ (cl_ (cr_ h))))))))))) (va_eqt (cl_ (cr_ (cl_ (cr_ (cl_ (cl_ (cl_ (cr_ (cl_ (cr_ h))))))))))) (fun j hj => ?_) hA
  match j, hj with
  | 0, _ => exact (va_eqt (cl_ (cr_ (cr_ (cl_ (cr_ (cl_ (cl_ (cl_ (cr_ (cl_ (cr_ h)))))))))))).trans (congrArg (fun z => some (Value.int z)) (show (86 : Int32) = Int32.ofInt (sAt (-14) ((0 : Nat) : Int)) by decide))
  | 1, _ => exact (va_eqt (cr_ (cr_ (cr_ (cl_ (cr_ (cl_ (cl_ (cl_ (cr_ (cl_ (cr_ h)))))))))))).trans (congrArg (fun z => some (Value.int z)) (show (79 : Int32) = Int32.ofInt (sAt (-14) ((1 : Nat) : Int)) by decide))
  | 2, _ => exact (va_eqt (cl_ (cl_ (cr_ (cr_ (cl_ (cl_ (cl_ (cr_ (cl_ (cr_ h))))))))))).trans (congrArg (fun z => some (Value.int z)) (show (84 : Int32) = Int32.ofInt (sAt (-14) ((2 : Nat) : Int)) by decide))
  | 3, _ => exact (va_eqt (cl_ (cr_ (cl_ (cr_ (cr_ (cl_ (cl_ (cl_ (cr_ (cl_ (cr_ h)))))))))))).trans (congrArg (fun z => some (Value.int z)) (show (69 : Int32) = Int32.ofInt (sAt (-14) ((3 : Nat) : Int)) by decide))
  | j + 4, hj => exact absurd hj (by omega)
theorem ws_3 {args : Array Value} {s : State} {A : Nat → Prop} (h : (Jvm.Cond.and given_1 narrow_1).before args s = true) (hA : ∀ a : Nat, a < s.heap.size → ¬ A a) : strAt args s A (-16) := by
  refine str_of (N := 5) (tm := (Jvm.Term.string "ElectionHouse$Reader" 42)) rfl rfl (cr_ (cr_ (cl_ (cr_ (cr_ (cl_ (cl_ (cl_ (cr_ (cl_ (cr_ h))))))))))) (cl_ (cl_ (cr_ (cr_ (cr_ (cl_ (cl_ (cl_ (cr_ (cl_ (cr_ h))))))))))) (cr_ (cl_ (cr_ (cr_ (cr_ (cl_ (cl_ (cl_ (cr_ (cl_ (cr_ h))))))))))) (va_eqt (cl_ (cr_ (cr_ (cr_ (cr_ (cl_ (cl_ (cl_ (cr_ (cl_ (cr_ h)))))))))))) (fun j hj => ?_) hA
  match j, hj with
  | 0, _ => exact (va_eqt (cr_ (cr_ (cr_ (cr_ (cr_ (cl_ (cl_ (cl_ (cr_ (cl_ (cr_ h)))))))))))).trans (congrArg (fun z => some (Value.int z)) (show (83 : Int32) = Int32.ofInt (sAt (-16) ((0 : Nat) : Int)) by decide))
  | 1, _ => exact (va_eqt (cl_ (cl_ (cl_ (cl_ (cr_ (cl_ (cl_ (cr_ (cl_ (cr_ h))))))))))).trans (congrArg (fun z => some (Value.int z)) (show (84 : Int32) = Int32.ofInt (sAt (-16) ((1 : Nat) : Int)) by decide))
  | 2, _ => exact (va_eqt (cl_ (cr_ (cl_ (cl_ (cl_ (cr_ (cl_ (cl_ (cr_ (cl_ (cr_ h)))))))))))).trans (congrArg (fun z => some (Value.int z)) (show (65 : Int32) = Int32.ofInt (sAt (-16) ((2 : Nat) : Int)) by decide))
  | 3, _ => exact (va_eqt (cr_ (cr_ (cl_ (cl_ (cl_ (cr_ (cl_ (cl_ (cr_ (cl_ (cr_ h)))))))))))).trans (congrArg (fun z => some (Value.int z)) (show (78 : Int32) = Int32.ofInt (sAt (-16) ((3 : Nat) : Int)) by decide))
  | 4, _ => exact (va_eqt (cl_ (cr_ (cl_ (cl_ (cr_ (cl_ (cl_ (cr_ (cl_ (cr_ h))))))))))).trans (congrArg (fun z => some (Value.int z)) (show (68 : Int32) = Int32.ofInt (sAt (-16) ((4 : Nat) : Int)) by decide))
  | j + 5, hj => exact absurd hj (by omega)
theorem ws_4 {args : Array Value} {s : State} {A : Nat → Prop} (h : (Jvm.Cond.and given_1 narrow_1).before args s = true) (hA : ∀ a : Nat, a < s.heap.size → ¬ A a) : strAt args s A (-18) := by
  refine str_of (N := 10) (tm := (Jvm.Term.string "ElectionHouse$Reader" 44)) rfl rfl (cl_ (cr_ (cr_ (cl_ (cl_ (cr_ (cl_ (cl_ (cr_ (cl_ (cr_ h))))))))))) (cr_ (cr_ (cr_ (cl_ (cl_ (cr_ (cl_ (cl_ (cr_ (cl_ (cr_ h))))))))))) (cl_ (cl_ (cr_ (cl_ (cr_ (cl_ (cl_ (cr_ (cl_ (cr_ h)))))))))) (va_eqt (cl_ (cr_ (cl_ (cr_ (cl_ (cr_ (cl_ (cl_ (cr_ (cl_ (cr_ h)))))))))))) (fun j hj => ?_) hA
  match j, hj with
  | 0, _ => exact (va_eqt (cr_ (cr_ (cl_ (cr_ (cl_ (cr_ (cl_ (cl_ (cr_ (cl_ (cr_ h)))))))))))).trans (congrArg (fun z => some (Value.int z)) (show (83 : Int32) = Int32.ofInt (sAt (-18) ((0 : Nat) : Int)) by decide))
  | 1, _ => exact (va_eqt (cl_ (cr_ (cr_ (cl_ (cr_ (cl_ (cl_ (cr_ (cl_ (cr_ h))))))))))).trans (congrArg (fun z => some (Value.int z)) (show (73 : Int32) = Int32.ofInt (sAt (-18) ((1 : Nat) : Int)) by decide))
  | 2, _ => exact (va_eqt (cl_ (cr_ (cr_ (cr_ (cl_ (cr_ (cl_ (cl_ (cr_ (cl_ (cr_ h)))))))))))).trans (congrArg (fun z => some (Value.int z)) (show (71 : Int32) = Int32.ofInt (sAt (-18) ((2 : Nat) : Int)) by decide))
  | 3, _ => exact (va_eqt (cr_ (cr_ (cr_ (cr_ (cl_ (cr_ (cl_ (cl_ (cr_ (cl_ (cr_ h)))))))))))).trans (congrArg (fun z => some (Value.int z)) (show (78 : Int32) = Int32.ofInt (sAt (-18) ((3 : Nat) : Int)) by decide))
  | 4, _ => exact (va_eqt (cl_ (cl_ (cl_ (cr_ (cr_ (cl_ (cl_ (cr_ (cl_ (cr_ h))))))))))).trans (congrArg (fun z => some (Value.int z)) (show (65 : Int32) = Int32.ofInt (sAt (-18) ((4 : Nat) : Int)) by decide))
  | 5, _ => exact (va_eqt (cl_ (cr_ (cl_ (cl_ (cr_ (cr_ (cl_ (cl_ (cr_ (cl_ (cr_ h)))))))))))).trans (congrArg (fun z => some (Value.int z)) (show (84 : Int32) = Int32.ofInt (sAt (-18) ((5 : Nat) : Int)) by decide))
  | 6, _ => exact (va_eqt (cr_ (cr_ (cl_ (cl_ (cr_ (cr_ (cl_ (cl_ (cr_ (cl_ (cr_ h)))))))))))).trans (congrArg (fun z => some (Value.int z)) (show (85 : Int32) = Int32.ofInt (sAt (-18) ((6 : Nat) : Int)) by decide))
  | 7, _ => exact (va_eqt (cl_ (cr_ (cl_ (cr_ (cr_ (cl_ (cl_ (cr_ (cl_ (cr_ h))))))))))).trans (congrArg (fun z => some (Value.int z)) (show (82 : Int32) = Int32.ofInt (sAt (-18) ((7 : Nat) : Int)) by decide))
  | 8, _ => exact (va_eqt (cl_ (cr_ (cr_ (cl_ (cr_ (cr_ (cl_ (cl_ (cr_ (cl_ (cr_ h)))))))))))).trans (congrArg (fun z => some (Value.int z)) (show (69 : Int32) = Int32.ofInt (sAt (-18) ((8 : Nat) : Int)) by decide))
  | 9, _ => exact (va_eqt (cr_ (cr_ (cr_ (cl_ (cr_ (cr_ (cl_ (cl_ (cr_ (cl_ (cr_ h)))))))))))).trans (congrArg (fun z => some (Value.int z)) (show (83 : Int32) = Int32.ofInt (sAt (-18) ((9 : Nat) : Int)) by decide))
  | j + 10, hj => exact absurd hj (by omega)
theorem ws_5 {args : Array Value} {s : State} {A : Nat → Prop} (h : (Jvm.Cond.and given_1 narrow_1).before args s = true) (hA : ∀ a : Nat, a < s.heap.size → ¬ A a) : strAt args s A (-20) := by
  refine str_of (N := 5) (tm := (Jvm.Term.string "ElectionHouse$Reader" 46)) rfl rfl (cl_ (cl_ (cr_ (cr_ (cr_ (cl_ (cl_ (cr_ (cl_ (cr_ h)))))))))) (cl_ (cr_ (cl_ (cr_ (cr_ (cr_ (cl_ (cl_ (cr_ (cl_ (cr_ h))))))))))) (cr_ (cr_ (cl_ (cr_ (cr_ (cr_ (cl_ (cl_ (cr_ (cl_ (cr_ h))))))))))) (va_eqt (cl_ (cl_ (cr_ (cr_ (cr_ (cr_ (cl_ (cl_ (cr_ (cl_ (cr_ h)))))))))))) (fun j hj => ?_) hA
  match j, hj with
  | 0, _ => exact (va_eqt (cr_ (cl_ (cr_ (cr_ (cr_ (cr_ (cl_ (cl_ (cr_ (cl_ (cr_ h)))))))))))).trans (congrArg (fun z => some (Value.int z)) (show (83 : Int32) = Int32.ofInt (sAt (-20) ((0 : Nat) : Int)) by decide))
  | 1, _ => exact (va_eqt (cl_ (cr_ (cr_ (cr_ (cr_ (cr_ (cl_ (cl_ (cr_ (cl_ (cr_ h)))))))))))).trans (congrArg (fun z => some (Value.int z)) (show (80 : Int32) = Int32.ofInt (sAt (-20) ((1 : Nat) : Int)) by decide))
  | 2, _ => exact (va_eqt (cr_ (cr_ (cr_ (cr_ (cr_ (cr_ (cl_ (cl_ (cr_ (cl_ (cr_ h)))))))))))).trans (congrArg (fun z => some (Value.int z)) (show (79 : Int32) = Int32.ofInt (sAt (-20) ((2 : Nat) : Int)) by decide))
  | 3, _ => exact (va_eqt (cl_ (cl_ (cl_ (cl_ (cl_ (cr_ (cl_ (cr_ (cl_ (cr_ h))))))))))).trans (congrArg (fun z => some (Value.int z)) (show (73 : Int32) = Int32.ofInt (sAt (-20) ((3 : Nat) : Int)) by decide))
  | 4, _ => exact (va_eqt (cl_ (cr_ (cl_ (cl_ (cl_ (cl_ (cr_ (cl_ (cr_ (cl_ (cr_ h)))))))))))).trans (congrArg (fun z => some (Value.int z)) (show (76 : Int32) = Int32.ofInt (sAt (-20) ((4 : Nat) : Int)) by decide))
  | j + 5, hj => exact absurd hj (by omega)
theorem ws_6 {args : Array Value} {s : State} {A : Nat → Prop} (h : (Jvm.Cond.and given_1 narrow_1).before args s = true) (hA : ∀ a : Nat, a < s.heap.size → ¬ A a) : strAt args s A (-22) := by
  refine str_of (N := 4) (tm := (Jvm.Term.string "ElectionHouse$Reader" 48)) rfl rfl (cr_ (cr_ (cl_ (cl_ (cl_ (cl_ (cr_ (cl_ (cr_ (cl_ (cr_ h))))))))))) (cl_ (cr_ (cl_ (cl_ (cl_ (cr_ (cl_ (cr_ (cl_ (cr_ h)))))))))) (cl_ (cr_ (cr_ (cl_ (cl_ (cl_ (cr_ (cl_ (cr_ (cl_ (cr_ h))))))))))) (va_eqt (cr_ (cr_ (cr_ (cl_ (cl_ (cl_ (cr_ (cl_ (cr_ (cl_ (cr_ h)))))))))))) (fun j hj => ?_) hA
  match j, hj with
  | 0, _ => exact (va_eqt (cl_ (cl_ (cr_ (cl_ (cl_ (cr_ (cl_ (cr_ (cl_ (cr_ h))))))))))).trans (congrArg (fun z => some (Value.int z)) (show (77 : Int32) = Int32.ofInt (sAt (-22) ((0 : Nat) : Int)) by decide))
  | 1, _ => exact (va_eqt (cl_ (cr_ (cl_ (cr_ (cl_ (cl_ (cr_ (cl_ (cr_ (cl_ (cr_ h)))))))))))).trans (congrArg (fun z => some (Value.int z)) (show (65 : Int32) = Int32.ofInt (sAt (-22) ((1 : Nat) : Int)) by decide))
  | 2, _ => exact (va_eqt (cr_ (cr_ (cl_ (cr_ (cl_ (cl_ (cr_ (cl_ (cr_ (cl_ (cr_ h)))))))))))).trans (congrArg (fun z => some (Value.int z)) (show (73 : Int32) = Int32.ofInt (sAt (-22) ((2 : Nat) : Int)) by decide))
  | 3, _ => exact (va_eqt (cl_ (cr_ (cr_ (cl_ (cl_ (cr_ (cl_ (cr_ (cl_ (cr_ h))))))))))).trans (congrArg (fun z => some (Value.int z)) (show (76 : Int32) = Int32.ofInt (sAt (-22) ((3 : Nat) : Int)) by decide))
  | j + 4, hj => exact absurd hj (by omega)
theorem ws_7 {args : Array Value} {s : State} {A : Nat → Prop} (h : (Jvm.Cond.and given_1 narrow_1).before args s = true) (hA : ∀ a : Nat, a < s.heap.size → ¬ A a) : strAt args s A (-24) := by
  refine str_of (N := 7) (tm := (Jvm.Term.string "ElectionHouse$Reader" 50)) rfl rfl (cl_ (cr_ (cr_ (cr_ (cl_ (cl_ (cr_ (cl_ (cr_ (cl_ (cr_ h))))))))))) (cr_ (cr_ (cr_ (cr_ (cl_ (cl_ (cr_ (cl_ (cr_ (cl_ (cr_ h))))))))))) (cl_ (cl_ (cl_ (cr_ (cl_ (cr_ (cl_ (cr_ (cl_ (cr_ h)))))))))) (va_eqt (cl_ (cr_ (cl_ (cl_ (cr_ (cl_ (cr_ (cl_ (cr_ (cl_ (cr_ h)))))))))))) (fun j hj => ?_) hA
  match j, hj with
  | 0, _ => exact (va_eqt (cr_ (cr_ (cl_ (cl_ (cr_ (cl_ (cr_ (cl_ (cr_ (cl_ (cr_ h)))))))))))).trans (congrArg (fun z => some (Value.int z)) (show (67 : Int32) = Int32.ofInt (sAt (-24) ((0 : Nat) : Int)) by decide))
  | 1, _ => exact (va_eqt (cl_ (cr_ (cl_ (cr_ (cl_ (cr_ (cl_ (cr_ (cl_ (cr_ h))))))))))).trans (congrArg (fun z => some (Value.int z)) (show (79 : Int32) = Int32.ofInt (sAt (-24) ((1 : Nat) : Int)) by decide))
  | 2, _ => exact (va_eqt (cl_ (cr_ (cr_ (cl_ (cr_ (cl_ (cr_ (cl_ (cr_ (cl_ (cr_ h)))))))))))).trans (congrArg (fun z => some (Value.int z)) (show (78 : Int32) = Int32.ofInt (sAt (-24) ((2 : Nat) : Int)) by decide))
  | 3, _ => exact (va_eqt (cr_ (cr_ (cr_ (cl_ (cr_ (cl_ (cr_ (cl_ (cr_ (cl_ (cr_ h)))))))))))).trans (congrArg (fun z => some (Value.int z)) (show (84 : Int32) = Int32.ofInt (sAt (-24) ((3 : Nat) : Int)) by decide))
  | 4, _ => exact (va_eqt (cl_ (cl_ (cr_ (cr_ (cl_ (cr_ (cl_ (cr_ (cl_ (cr_ h))))))))))).trans (congrArg (fun z => some (Value.int z)) (show (69 : Int32) = Int32.ofInt (sAt (-24) ((4 : Nat) : Int)) by decide))
  | 5, _ => exact (va_eqt (cl_ (cr_ (cl_ (cr_ (cr_ (cl_ (cr_ (cl_ (cr_ (cl_ (cr_ h)))))))))))).trans (congrArg (fun z => some (Value.int z)) (show (83 : Int32) = Int32.ofInt (sAt (-24) ((5 : Nat) : Int)) by decide))
  | 6, _ => exact (va_eqt (cr_ (cr_ (cl_ (cr_ (cr_ (cl_ (cr_ (cl_ (cr_ (cl_ (cr_ h)))))))))))).trans (congrArg (fun z => some (Value.int z)) (show (84 : Int32) = Int32.ofInt (sAt (-24) ((6 : Nat) : Int)) by decide))
  | j + 7, hj => exact absurd hj (by omega)
theorem ws_8 {args : Array Value} {s : State} {A : Nat → Prop} (h : (Jvm.Cond.and given_1 narrow_1).before args s = true) (hA : ∀ a : Nat, a < s.heap.size → ¬ A a) : strAt args s A (-26) := by
  refine str_of (N := 4) (tm := (Jvm.Term.string "ElectionHouse$Reader" 52)) rfl rfl (cl_ (cl_ (cr_ (cr_ (cr_ (cl_ (cr_ (cl_ (cr_ (cl_ (cr_ h))))))))))) (cr_ (cl_ (cr_ (cr_ (cr_ (cl_ (cr_ (cl_ (cr_ (cl_ (cr_ h))))))))))) (cl_ (cr_ (cr_ (cr_ (cr_ (cl_ (cr_ (cl_ (cr_ (cl_ (cr_ h))))))))))) (va_eqt (cr_ (cr_ (cr_ (cr_ (cr_ (cl_ (cr_ (cl_ (cr_ (cl_ (cr_ h)))))))))))) (fun j hj => ?_) hA
  match j, hj with
  | 0, _ => exact (va_eqt (cl_ (cl_ (cl_ (cl_ (cr_ (cr_ (cl_ (cr_ (cl_ (cr_ h))))))))))).trans (congrArg (fun z => some (Value.int z)) (show (69 : Int32) = Int32.ofInt (sAt (-26) ((0 : Nat) : Int)) by decide))
  | 1, _ => exact (va_eqt (cl_ (cr_ (cl_ (cl_ (cl_ (cr_ (cr_ (cl_ (cr_ (cl_ (cr_ h)))))))))))).trans (congrArg (fun z => some (Value.int z)) (show (65 : Int32) = Int32.ofInt (sAt (-26) ((1 : Nat) : Int)) by decide))
  | 2, _ => exact (va_eqt (cr_ (cr_ (cl_ (cl_ (cl_ (cr_ (cr_ (cl_ (cr_ (cl_ (cr_ h)))))))))))).trans (congrArg (fun z => some (Value.int z)) (show (67 : Int32) = Int32.ofInt (sAt (-26) ((2 : Nat) : Int)) by decide))
  | 3, _ => exact (va_eqt (cl_ (cr_ (cl_ (cl_ (cr_ (cr_ (cl_ (cr_ (cl_ (cr_ h))))))))))).trans (congrArg (fun z => some (Value.int z)) (show (72 : Int32) = Int32.ofInt (sAt (-26) ((3 : Nat) : Int)) by decide))
  | j + 4, hj => exact absurd hj (by omega)
theorem ws_9 {args : Array Value} {s : State} {A : Nat → Prop} (h : (Jvm.Cond.and given_1 narrow_1).before args s = true) (hA : ∀ a : Nat, a < s.heap.size → ¬ A a) : strAt args s A (-28) := by
  refine str_of (N := 2) (tm := (Jvm.Term.string "ElectionHouse$Reader" 54)) rfl rfl (cl_ (cr_ (cr_ (cl_ (cl_ (cr_ (cr_ (cl_ (cr_ (cl_ (cr_ h))))))))))) (cr_ (cr_ (cr_ (cl_ (cl_ (cr_ (cr_ (cl_ (cr_ (cl_ (cr_ h))))))))))) (cl_ (cl_ (cr_ (cl_ (cr_ (cr_ (cl_ (cr_ (cl_ (cr_ h)))))))))) (va_eqt (cl_ (cr_ (cl_ (cr_ (cl_ (cr_ (cr_ (cl_ (cr_ (cl_ (cr_ h)))))))))))) (fun j hj => ?_) hA
  match j, hj with
  | 0, _ => exact (va_eqt (cr_ (cr_ (cl_ (cr_ (cl_ (cr_ (cr_ (cl_ (cr_ (cl_ (cr_ h)))))))))))).trans (congrArg (fun z => some (Value.int z)) (show (73 : Int32) = Int32.ofInt (sAt (-28) ((0 : Nat) : Int)) by decide))
  | 1, _ => exact (va_eqt (cl_ (cr_ (cr_ (cl_ (cr_ (cr_ (cl_ (cr_ (cl_ (cr_ h))))))))))).trans (congrArg (fun z => some (Value.int z)) (show (78 : Int32) = Int32.ofInt (sAt (-28) ((1 : Nat) : Int)) by decide))
  | j + 2, hj => exact absurd hj (by omega)
theorem ws_10 {args : Array Value} {s : State} {A : Nat → Prop} (h : (Jvm.Cond.and given_1 narrow_1).before args s = true) (hA : ∀ a : Nat, a < s.heap.size → ¬ A a) : strAt args s A (-30) := by
  refine str_of (N := 5) (tm := (Jvm.Term.string "ElectionHouse$Reader" 56)) rfl rfl (cl_ (cr_ (cr_ (cr_ (cl_ (cr_ (cr_ (cl_ (cr_ (cl_ (cr_ h))))))))))) (cr_ (cr_ (cr_ (cr_ (cl_ (cr_ (cr_ (cl_ (cr_ (cl_ (cr_ h))))))))))) (cl_ (cl_ (cl_ (cr_ (cr_ (cr_ (cl_ (cr_ (cl_ (cr_ h)))))))))) (va_eqt (cl_ (cr_ (cl_ (cl_ (cr_ (cr_ (cr_ (cl_ (cr_ (cl_ (cr_ h)))))))))))) (fun j hj => ?_) hA
  match j, hj with
  | 0, _ => exact (va_eqt (cr_ (cr_ (cl_ (cl_ (cr_ (cr_ (cr_ (cl_ (cr_ (cl_ (cr_ h)))))))))))).trans (congrArg (fun z => some (Value.int z)) (show (83 : Int32) = Int32.ofInt (sAt (-30) ((0 : Nat) : Int)) by decide))
  | 1, _ => exact (va_eqt (cl_ (cr_ (cl_ (cr_ (cr_ (cr_ (cl_ (cr_ (cl_ (cr_ h))))))))))).trans (congrArg (fun z => some (Value.int z)) (show (69 : Int32) = Int32.ofInt (sAt (-30) ((1 : Nat) : Int)) by decide))
  | 2, _ => exact (va_eqt (cl_ (cr_ (cr_ (cl_ (cr_ (cr_ (cr_ (cl_ (cr_ (cl_ (cr_ h)))))))))))).trans (congrArg (fun z => some (Value.int z)) (show (65 : Int32) = Int32.ofInt (sAt (-30) ((2 : Nat) : Int)) by decide))
  | 3, _ => exact (va_eqt (cr_ (cr_ (cr_ (cl_ (cr_ (cr_ (cr_ (cl_ (cr_ (cl_ (cr_ h)))))))))))).trans (congrArg (fun z => some (Value.int z)) (show (84 : Int32) = Int32.ofInt (sAt (-30) ((3 : Nat) : Int)) by decide))
  | 4, _ => exact (va_eqt (cl_ (cl_ (cr_ (cr_ (cr_ (cr_ (cl_ (cr_ (cl_ (cr_ h))))))))))).trans (congrArg (fun z => some (Value.int z)) (show (83 : Int32) = Int32.ofInt (sAt (-30) ((4 : Nat) : Int)) by decide))
  | j + 5, hj => exact absurd hj (by omega)
theorem ws_11 {args : Array Value} {s : State} {A : Nat → Prop} (h : (Jvm.Cond.and given_1 narrow_1).before args s = true) (hA : ∀ a : Nat, a < s.heap.size → ¬ A a) : strAt args s A (-32) := by
  refine str_of (N := 2) (tm := (Jvm.Term.string "ElectionHouse$Reader" 58)) rfl rfl (cl_ (cr_ (cl_ (cr_ (cr_ (cr_ (cr_ (cl_ (cr_ (cl_ (cr_ h))))))))))) (cr_ (cr_ (cl_ (cr_ (cr_ (cr_ (cr_ (cl_ (cr_ (cl_ (cr_ h))))))))))) (cl_ (cl_ (cr_ (cr_ (cr_ (cr_ (cr_ (cl_ (cr_ (cl_ (cr_ h))))))))))) (va_eqt (cr_ (cl_ (cr_ (cr_ (cr_ (cr_ (cr_ (cl_ (cr_ (cl_ (cr_ h)))))))))))) (fun j hj => ?_) hA
  match j, hj with
  | 0, _ => exact (va_eqt (cl_ (cr_ (cr_ (cr_ (cr_ (cr_ (cr_ (cl_ (cr_ (cl_ (cr_ h)))))))))))).trans (congrArg (fun z => some (Value.int z)) (show (66 : Int32) = Int32.ofInt (sAt (-32) ((0 : Nat) : Int)) by decide))
  | 1, _ => exact (va_eqt (cr_ (cr_ (cr_ (cr_ (cr_ (cr_ (cr_ (cl_ (cr_ (cl_ (cr_ h)))))))))))).trans (congrArg (fun z => some (Value.int z)) (show (89 : Int32) = Int32.ofInt (sAt (-32) ((1 : Nat) : Int)) by decide))
  | j + 2, hj => exact absurd hj (by omega)
theorem ws_12 {args : Array Value} {s : State} {A : Nat → Prop} (h : (Jvm.Cond.and given_1 narrow_1).before args s = true) (hA : ∀ a : Nat, a < s.heap.size → ¬ A a) : strAt args s A (-34) := by
  refine str_of (N := 4) (tm := (Jvm.Term.string "ElectionHouse$Reader" 60)) rfl rfl (cl_ (cl_ (cl_ (cl_ (cl_ (cl_ (cr_ (cr_ (cl_ (cr_ h)))))))))) (cl_ (cr_ (cl_ (cl_ (cl_ (cl_ (cl_ (cr_ (cr_ (cl_ (cr_ h))))))))))) (cr_ (cr_ (cl_ (cl_ (cl_ (cl_ (cl_ (cr_ (cr_ (cl_ (cr_ h))))))))))) (va_eqt (cl_ (cr_ (cl_ (cl_ (cl_ (cl_ (cr_ (cr_ (cl_ (cr_ h))))))))))) (fun j hj => ?_) hA
  match j, hj with
  | 0, _ => exact (va_eqt (cl_ (cr_ (cr_ (cl_ (cl_ (cl_ (cl_ (cr_ (cr_ (cl_ (cr_ h)))))))))))).trans (congrArg (fun z => some (Value.int z)) (show (76 : Int32) = Int32.ofInt (sAt (-34) ((0 : Nat) : Int)) by decide))
  | 1, _ => exact (va_eqt (cr_ (cr_ (cr_ (cl_ (cl_ (cl_ (cl_ (cr_ (cr_ (cl_ (cr_ h)))))))))))).trans (congrArg (fun z => some (Value.int z)) (show (65 : Int32) = Int32.ofInt (sAt (-34) ((1 : Nat) : Int)) by decide))
  | 2, _ => exact (va_eqt (cl_ (cl_ (cr_ (cl_ (cl_ (cl_ (cr_ (cr_ (cl_ (cr_ h))))))))))).trans (congrArg (fun z => some (Value.int z)) (show (83 : Int32) = Int32.ofInt (sAt (-34) ((2 : Nat) : Int)) by decide))
  | 3, _ => exact (va_eqt (cl_ (cr_ (cl_ (cr_ (cl_ (cl_ (cl_ (cr_ (cr_ (cl_ (cr_ h)))))))))))).trans (congrArg (fun z => some (Value.int z)) (show (84 : Int32) = Int32.ofInt (sAt (-34) ((3 : Nat) : Int)) by decide))
  | j + 4, hj => exact absurd hj (by omega)
theorem ws_13 {args : Array Value} {s : State} {A : Nat → Prop} (h : (Jvm.Cond.and given_1 narrow_1).before args s = true) (hA : ∀ a : Nat, a < s.heap.size → ¬ A a) : strAt args s A (-36) := by
  refine str_of (N := 6) (tm := (Jvm.Term.string "ElectionHouse$Reader" 62)) rfl rfl (cr_ (cr_ (cl_ (cr_ (cl_ (cl_ (cl_ (cr_ (cr_ (cl_ (cr_ h))))))))))) (cl_ (cr_ (cr_ (cl_ (cl_ (cl_ (cr_ (cr_ (cl_ (cr_ h)))))))))) (cl_ (cr_ (cr_ (cr_ (cl_ (cl_ (cl_ (cr_ (cr_ (cl_ (cr_ h))))))))))) (va_eqt (cr_ (cr_ (cr_ (cr_ (cl_ (cl_ (cl_ (cr_ (cr_ (cl_ (cr_ h)))))))))))) (fun j hj => ?_) hA
  match j, hj with
  | 0, _ => exact (va_eqt (cl_ (cl_ (cl_ (cr_ (cl_ (cl_ (cr_ (cr_ (cl_ (cr_ h))))))))))).trans (congrArg (fun z => some (Value.int z)) (show (69 : Int32) = Int32.ofInt (sAt (-36) ((0 : Nat) : Int)) by decide))
  | 1, _ => exact (va_eqt (cl_ (cr_ (cl_ (cl_ (cr_ (cl_ (cl_ (cr_ (cr_ (cl_ (cr_ h)))))))))))).trans (congrArg (fun z => some (Value.int z)) (show (65 : Int32) = Int32.ofInt (sAt (-36) ((1 : Nat) : Int)) by decide))
  | 2, _ => exact (va_eqt (cr_ (cr_ (cl_ (cl_ (cr_ (cl_ (cl_ (cr_ (cr_ (cl_ (cr_ h)))))))))))).trans (congrArg (fun z => some (Value.int z)) (show (83 : Int32) = Int32.ofInt (sAt (-36) ((2 : Nat) : Int)) by decide))
  | 3, _ => exact (va_eqt (cl_ (cr_ (cl_ (cr_ (cl_ (cl_ (cr_ (cr_ (cl_ (cr_ h))))))))))).trans (congrArg (fun z => some (Value.int z)) (show (84 : Int32) = Int32.ofInt (sAt (-36) ((3 : Nat) : Int)) by decide))
  | 4, _ => exact (va_eqt (cl_ (cr_ (cr_ (cl_ (cr_ (cl_ (cl_ (cr_ (cr_ (cl_ (cr_ h)))))))))))).trans (congrArg (fun z => some (Value.int z)) (show (69 : Int32) = Int32.ofInt (sAt (-36) ((4 : Nat) : Int)) by decide))
  | 5, _ => exact (va_eqt (cr_ (cr_ (cr_ (cl_ (cr_ (cl_ (cl_ (cr_ (cr_ (cl_ (cr_ h)))))))))))).trans (congrArg (fun z => some (Value.int z)) (show (82 : Int32) = Int32.ofInt (sAt (-36) ((5 : Nat) : Int)) by decide))
  | j + 6, hj => exact absurd hj (by omega)
theorem ws_14 {args : Array Value} {s : State} {A : Nat → Prop} (h : (Jvm.Cond.and given_1 narrow_1).before args s = true) (hA : ∀ a : Nat, a < s.heap.size → ¬ A a) : strAt args s A (-38) := by
  refine str_of (N := 2) (tm := (Jvm.Term.string "ElectionHouse$Reader" 64)) rfl rfl (cl_ (cl_ (cr_ (cr_ (cl_ (cl_ (cr_ (cr_ (cl_ (cr_ h)))))))))) (cl_ (cr_ (cl_ (cr_ (cr_ (cl_ (cl_ (cr_ (cr_ (cl_ (cr_ h))))))))))) (cr_ (cr_ (cl_ (cr_ (cr_ (cl_ (cl_ (cr_ (cr_ (cl_ (cr_ h))))))))))) (va_eqt (cl_ (cl_ (cr_ (cr_ (cr_ (cl_ (cl_ (cr_ (cr_ (cl_ (cr_ h)))))))))))) (fun j hj => ?_) hA
  match j, hj with
  | 0, _ => exact (va_eqt (cr_ (cl_ (cr_ (cr_ (cr_ (cl_ (cl_ (cr_ (cr_ (cl_ (cr_ h)))))))))))).trans (congrArg (fun z => some (Value.int z)) (show (79 : Int32) = Int32.ofInt (sAt (-38) ((0 : Nat) : Int)) by decide))
  | 1, _ => exact (va_eqt (cl_ (cr_ (cr_ (cr_ (cr_ (cl_ (cl_ (cr_ (cr_ (cl_ (cr_ h)))))))))))).trans (congrArg (fun z => some (Value.int z)) (show (82 : Int32) = Int32.ofInt (sAt (-38) ((1 : Nat) : Int)) by decide))
  | j + 2, hj => exact absurd hj (by omega)
theorem ws_15 {args : Array Value} {s : State} {A : Nat → Prop} (h : (Jvm.Cond.and given_1 narrow_1).before args s = true) (hA : ∀ a : Nat, a < s.heap.size → ¬ A a) : strAt args s A (-40) := by
  refine str_of (N := 3) (tm := (Jvm.Term.string "ElectionHouse$Reader" 66)) rfl rfl (cr_ (cr_ (cr_ (cr_ (cr_ (cl_ (cl_ (cr_ (cr_ (cl_ (cr_ h))))))))))) (cl_ (cl_ (cl_ (cl_ (cr_ (cl_ (cr_ (cr_ (cl_ (cr_ h)))))))))) (cl_ (cr_ (cl_ (cl_ (cl_ (cr_ (cl_ (cr_ (cr_ (cl_ (cr_ h))))))))))) (va_eqt (cr_ (cr_ (cl_ (cl_ (cl_ (cr_ (cl_ (cr_ (cr_ (cl_ (cr_ h)))))))))))) (fun j hj => ?_) hA
  match j, hj with
  | 0, _ => exact (va_eqt (cl_ (cr_ (cl_ (cl_ (cr_ (cl_ (cr_ (cr_ (cl_ (cr_ h))))))))))).trans (congrArg (fun z => some (Value.int z)) (show (65 : Int32) = Int32.ofInt (sAt (-40) ((0 : Nat) : Int)) by decide))
  | 1, _ => exact (va_eqt (cl_ (cr_ (cr_ (cl_ (cl_ (cr_ (cl_ (cr_ (cr_ (cl_ (cr_ h)))))))))))).trans (congrArg (fun z => some (Value.int z)) (show (78 : Int32) = Int32.ofInt (sAt (-40) ((1 : Nat) : Int)) by decide))
  | 2, _ => exact (va_eqt (cr_ (cr_ (cr_ (cl_ (cl_ (cr_ (cl_ (cr_ (cr_ (cl_ (cr_ h)))))))))))).trans (congrArg (fun z => some (Value.int z)) (show (68 : Int32) = Int32.ofInt (sAt (-40) ((2 : Nat) : Int)) by decide))
  | j + 3, hj => exact absurd hj (by omega)
theorem ws_16 {args : Array Value} {s : State} {A : Nat → Prop} (h : (Jvm.Cond.and given_1 narrow_1).before args s = true) (hA : ∀ a : Nat, a < s.heap.size → ¬ A a) : strAt args s A (-42) := by
  refine str_of (N := 3) (tm := (Jvm.Term.string "ElectionHouse$Reader" 68)) rfl rfl (cl_ (cl_ (cr_ (cl_ (cr_ (cl_ (cr_ (cr_ (cl_ (cr_ h)))))))))) (cl_ (cr_ (cl_ (cr_ (cl_ (cr_ (cl_ (cr_ (cr_ (cl_ (cr_ h))))))))))) (cr_ (cr_ (cl_ (cr_ (cl_ (cr_ (cl_ (cr_ (cr_ (cl_ (cr_ h))))))))))) (va_eqt (cl_ (cr_ (cr_ (cl_ (cr_ (cl_ (cr_ (cr_ (cl_ (cr_ h))))))))))) (fun j hj => ?_) hA
  match j, hj with
  | 0, _ => exact (va_eqt (cl_ (cr_ (cr_ (cr_ (cl_ (cr_ (cl_ (cr_ (cr_ (cl_ (cr_ h)))))))))))).trans (congrArg (fun z => some (Value.int z)) (show (78 : Int32) = Int32.ofInt (sAt (-42) ((0 : Nat) : Int)) by decide))
  | 1, _ => exact (va_eqt (cr_ (cr_ (cr_ (cr_ (cl_ (cr_ (cl_ (cr_ (cr_ (cl_ (cr_ h)))))))))))).trans (congrArg (fun z => some (Value.int z)) (show (79 : Int32) = Int32.ofInt (sAt (-42) ((1 : Nat) : Int)) by decide))
  | 2, _ => exact (va_eqt (cl_ (cl_ (cl_ (cr_ (cr_ (cl_ (cr_ (cr_ (cl_ (cr_ h))))))))))).trans (congrArg (fun z => some (Value.int z)) (show (84 : Int32) = Int32.ofInt (sAt (-42) ((2 : Nat) : Int)) by decide))
  | j + 3, hj => exact absurd hj (by omega)
theorem ws_17 {args : Array Value} {s : State} {A : Nat → Prop} (h : (Jvm.Cond.and given_1 narrow_1).before args s = true) (hA : ∀ a : Nat, a < s.heap.size → ¬ A a) : strAt args s A (-44) := by
  refine str_of (N := 3) (tm := (Jvm.Term.string "ElectionHouse$Reader" 70)) rfl rfl (cl_ (cr_ (cl_ (cl_ (cr_ (cr_ (cl_ (cr_ (cr_ (cl_ (cr_ h))))))))))) (cr_ (cr_ (cl_ (cl_ (cr_ (cr_ (cl_ (cr_ (cr_ (cl_ (cr_ h))))))))))) (cl_ (cr_ (cl_ (cr_ (cr_ (cl_ (cr_ (cr_ (cl_ (cr_ h)))))))))) (va_eqt (cl_ (cr_ (cr_ (cl_ (cr_ (cr_ (cl_ (cr_ (cr_ (cl_ (cr_ h)))))))))))) (fun j hj => ?_) hA
  match j, hj with
  | 0, _ => exact (va_eqt (cr_ (cr_ (cr_ (cl_ (cr_ (cr_ (cl_ (cr_ (cr_ (cl_ (cr_ h)))))))))))).trans (congrArg (fun z => some (Value.int z)) (show (65 : Int32) = Int32.ofInt (sAt (-44) ((0 : Nat) : Int)) by decide))
  | 1, _ => exact (va_eqt (cl_ (cl_ (cr_ (cr_ (cr_ (cl_ (cr_ (cr_ (cl_ (cr_ h))))))))))).trans (congrArg (fun z => some (Value.int z)) (show (71 : Int32) = Int32.ofInt (sAt (-44) ((1 : Nat) : Int)) by decide))
  | 2, _ => exact (va_eqt (cl_ (cr_ (cl_ (cr_ (cr_ (cr_ (cl_ (cr_ (cr_ (cl_ (cr_ h)))))))))))).trans (congrArg (fun z => some (Value.int z)) (show (69 : Int32) = Int32.ofInt (sAt (-44) ((2 : Nat) : Int)) by decide))
  | j + 3, hj => exact absurd hj (by omega)
theorem ws_18 {args : Array Value} {s : State} {A : Nat → Prop} (h : (Jvm.Cond.and given_1 narrow_1).before args s = true) (hA : ∀ a : Nat, a < s.heap.size → ¬ A a) : strAt args s A (-46) := by
  refine str_of (N := 5) (tm := (Jvm.Term.string "ElectionHouse$Reader" 72)) rfl rfl (cr_ (cr_ (cl_ (cr_ (cr_ (cr_ (cl_ (cr_ (cr_ (cl_ (cr_ h))))))))))) (cl_ (cl_ (cr_ (cr_ (cr_ (cr_ (cl_ (cr_ (cr_ (cl_ (cr_ h))))))))))) (cr_ (cl_ (cr_ (cr_ (cr_ (cr_ (cl_ (cr_ (cr_ (cl_ (cr_ h))))))))))) (va_eqt (cl_ (cr_ (cr_ (cr_ (cr_ (cr_ (cl_ (cr_ (cr_ (cl_ (cr_ h)))))))))))) (fun j hj => ?_) hA
  match j, hj with
  | 0, _ => exact (va_eqt (cr_ (cr_ (cr_ (cr_ (cr_ (cr_ (cl_ (cr_ (cr_ (cl_ (cr_ h)))))))))))).trans (congrArg (fun z => some (Value.int z)) (show (76 : Int32) = Int32.ofInt (sAt (-46) ((0 : Nat) : Int)) by decide))
  | 1, _ => exact (va_eqt (cl_ (cl_ (cl_ (cl_ (cl_ (cr_ (cr_ (cr_ (cl_ (cr_ h))))))))))).trans (congrArg (fun z => some (Value.int z)) (show (73 : Int32) = Int32.ofInt (sAt (-46) ((1 : Nat) : Int)) by decide))
  | 2, _ => exact (va_eqt (cl_ (cr_ (cl_ (cl_ (cl_ (cl_ (cr_ (cr_ (cr_ (cl_ (cr_ h)))))))))))).trans (congrArg (fun z => some (Value.int z)) (show (86 : Int32) = Int32.ofInt (sAt (-46) ((2 : Nat) : Int)) by decide))
  | 3, _ => exact (va_eqt (cr_ (cr_ (cl_ (cl_ (cl_ (cl_ (cr_ (cr_ (cr_ (cl_ (cr_ h)))))))))))).trans (congrArg (fun z => some (Value.int z)) (show (69 : Int32) = Int32.ofInt (sAt (-46) ((3 : Nat) : Int)) by decide))
  | 4, _ => exact (va_eqt (cl_ (cr_ (cl_ (cl_ (cl_ (cr_ (cr_ (cr_ (cl_ (cr_ h))))))))))).trans (congrArg (fun z => some (Value.int z)) (show (68 : Int32) = Int32.ofInt (sAt (-46) ((4 : Nat) : Int)) by decide))
  | j + 5, hj => exact absurd hj (by omega)
theorem ws_19 {args : Array Value} {s : State} {A : Nat → Prop} (h : (Jvm.Cond.and given_1 narrow_1).before args s = true) (hA : ∀ a : Nat, a < s.heap.size → ¬ A a) : strAt args s A (-48) := by
  refine str_of (N := 4) (tm := (Jvm.Term.string "ElectionHouse$Reader" 74)) rfl rfl (cl_ (cr_ (cr_ (cl_ (cl_ (cl_ (cr_ (cr_ (cr_ (cl_ (cr_ h))))))))))) (cr_ (cr_ (cr_ (cl_ (cl_ (cl_ (cr_ (cr_ (cr_ (cl_ (cr_ h))))))))))) (cl_ (cl_ (cr_ (cl_ (cl_ (cr_ (cr_ (cr_ (cl_ (cr_ h)))))))))) (va_eqt (cl_ (cr_ (cl_ (cr_ (cl_ (cl_ (cr_ (cr_ (cr_ (cl_ (cr_ h)))))))))))) (fun j hj => ?_) hA
  match j, hj with
  | 0, _ => exact (va_eqt (cr_ (cr_ (cl_ (cr_ (cl_ (cl_ (cr_ (cr_ (cr_ (cl_ (cr_ h)))))))))))).trans (congrArg (fun z => some (Value.int z)) (show (70 : Int32) = Int32.ofInt (sAt (-48) ((0 : Nat) : Int)) by decide))
  | 1, _ => exact (va_eqt (cl_ (cr_ (cr_ (cl_ (cl_ (cr_ (cr_ (cr_ (cl_ (cr_ h))))))))))).trans (congrArg (fun z => some (Value.int z)) (show (65 : Int32) = Int32.ofInt (sAt (-48) ((1 : Nat) : Int)) by decide))
  | 2, _ => exact (va_eqt (cl_ (cr_ (cr_ (cr_ (cl_ (cl_ (cr_ (cr_ (cr_ (cl_ (cr_ h)))))))))))).trans (congrArg (fun z => some (Value.int z)) (show (67 : Int32) = Int32.ofInt (sAt (-48) ((2 : Nat) : Int)) by decide))
  | 3, _ => exact (va_eqt (cr_ (cr_ (cr_ (cr_ (cl_ (cl_ (cr_ (cr_ (cr_ (cl_ (cr_ h)))))))))))).trans (congrArg (fun z => some (Value.int z)) (show (84 : Int32) = Int32.ofInt (sAt (-48) ((3 : Nat) : Int)) by decide))
  | j + 4, hj => exact absurd hj (by omega)
theorem ws_20 {args : Array Value} {s : State} {A : Nat → Prop} (h : (Jvm.Cond.and given_1 narrow_1).before args s = true) (hA : ∀ a : Nat, a < s.heap.size → ¬ A a) : strAt args s A (-50) := by
  refine str_of (N := 2) (tm := (Jvm.Term.string "ElectionHouse$Reader" 76)) rfl rfl (cl_ (cl_ (cl_ (cr_ (cl_ (cr_ (cr_ (cr_ (cl_ (cr_ h)))))))))) (cl_ (cr_ (cl_ (cl_ (cr_ (cl_ (cr_ (cr_ (cr_ (cl_ (cr_ h))))))))))) (cr_ (cr_ (cl_ (cl_ (cr_ (cl_ (cr_ (cr_ (cr_ (cl_ (cr_ h))))))))))) (va_eqt (cl_ (cr_ (cl_ (cr_ (cl_ (cr_ (cr_ (cr_ (cl_ (cr_ h))))))))))) (fun j hj => ?_) hA
  match j, hj with
  | 0, _ => exact (va_eqt (cl_ (cr_ (cr_ (cl_ (cr_ (cl_ (cr_ (cr_ (cr_ (cl_ (cr_ h)))))))))))).trans (congrArg (fun z => some (Value.int z)) (show (79 : Int32) = Int32.ofInt (sAt (-50) ((0 : Nat) : Int)) by decide))
  | 1, _ => exact (va_eqt (cr_ (cr_ (cr_ (cl_ (cr_ (cl_ (cr_ (cr_ (cr_ (cl_ (cr_ h)))))))))))).trans (congrArg (fun z => some (Value.int z)) (show (78 : Int32) = Int32.ofInt (sAt (-50) ((1 : Nat) : Int)) by decide))
  | j + 2, hj => exact absurd hj (by omega)
theorem ws_21 {args : Array Value} {s : State} {A : Nat → Prop} (h : (Jvm.Cond.and given_1 narrow_1).before args s = true) (hA : ∀ a : Nat, a < s.heap.size → ¬ A a) : strAt args s A (-52) := by
  refine str_of (N := 5) (tm := (Jvm.Term.string "ElectionHouse$Reader" 78)) rfl rfl (cl_ (cl_ (cr_ (cr_ (cl_ (cr_ (cr_ (cr_ (cl_ (cr_ h)))))))))) (cl_ (cr_ (cl_ (cr_ (cr_ (cl_ (cr_ (cr_ (cr_ (cl_ (cr_ h))))))))))) (cr_ (cr_ (cl_ (cr_ (cr_ (cl_ (cr_ (cr_ (cr_ (cl_ (cr_ h))))))))))) (va_eqt (cl_ (cl_ (cr_ (cr_ (cr_ (cl_ (cr_ (cr_ (cr_ (cl_ (cr_ h)))))))))))) (fun j hj => ?_) hA
  match j, hj with
  | 0, _ => exact (va_eqt (cr_ (cl_ (cr_ (cr_ (cr_ (cl_ (cr_ (cr_ (cr_ (cl_ (cr_ h)))))))))))).trans (congrArg (fun z => some (Value.int z)) (show (65 : Int32) = Int32.ofInt (sAt (-52) ((0 : Nat) : Int)) by decide))
  | 1, _ => exact (va_eqt (cl_ (cr_ (cr_ (cr_ (cr_ (cl_ (cr_ (cr_ (cr_ (cl_ (cr_ h)))))))))))).trans (congrArg (fun z => some (Value.int z)) (show (66 : Int32) = Int32.ofInt (sAt (-52) ((1 : Nat) : Int)) by decide))
  | 2, _ => exact (va_eqt (cr_ (cr_ (cr_ (cr_ (cr_ (cl_ (cr_ (cr_ (cr_ (cl_ (cr_ h)))))))))))).trans (congrArg (fun z => some (Value.int z)) (show (79 : Int32) = Int32.ofInt (sAt (-52) ((2 : Nat) : Int)) by decide))
  | 3, _ => exact (va_eqt (cl_ (cl_ (cl_ (cl_ (cr_ (cr_ (cr_ (cr_ (cl_ (cr_ h))))))))))).trans (congrArg (fun z => some (Value.int z)) (show (86 : Int32) = Int32.ofInt (sAt (-52) ((3 : Nat) : Int)) by decide))
  | 4, _ => exact (va_eqt (cl_ (cr_ (cl_ (cl_ (cl_ (cr_ (cr_ (cr_ (cr_ (cl_ (cr_ h)))))))))))).trans (congrArg (fun z => some (Value.int z)) (show (69 : Int32) = Int32.ofInt (sAt (-52) ((4 : Nat) : Int)) by decide))
  | j + 5, hj => exact absurd hj (by omega)
theorem ws_22 {args : Array Value} {s : State} {A : Nat → Prop} (h : (Jvm.Cond.and given_1 narrow_1).before args s = true) (hA : ∀ a : Nat, a < s.heap.size → ¬ A a) : strAt args s A (-54) := by
  refine str_of (N := 4) (tm := (Jvm.Term.string "ElectionHouse$Reader" 80)) rfl rfl (cr_ (cr_ (cl_ (cl_ (cl_ (cr_ (cr_ (cr_ (cr_ (cl_ (cr_ h))))))))))) (cl_ (cr_ (cl_ (cl_ (cr_ (cr_ (cr_ (cr_ (cl_ (cr_ h)))))))))) (cl_ (cr_ (cr_ (cl_ (cl_ (cr_ (cr_ (cr_ (cr_ (cl_ (cr_ h))))))))))) (va_eqt (cr_ (cr_ (cr_ (cl_ (cl_ (cr_ (cr_ (cr_ (cr_ (cl_ (cr_ h)))))))))))) (fun j hj => ?_) hA
  match j, hj with
  | 0, _ => exact (va_eqt (cl_ (cl_ (cr_ (cl_ (cr_ (cr_ (cr_ (cr_ (cl_ (cr_ h))))))))))).trans (congrArg (fun z => some (Value.int z)) (show (79 : Int32) = Int32.ofInt (sAt (-54) ((0 : Nat) : Int)) by decide))
  | 1, _ => exact (va_eqt (cl_ (cr_ (cl_ (cr_ (cl_ (cr_ (cr_ (cr_ (cr_ (cl_ (cr_ h)))))))))))).trans (congrArg (fun z => some (Value.int z)) (show (80 : Int32) = Int32.ofInt (sAt (-54) ((1 : Nat) : Int)) by decide))
  | 2, _ => exact (va_eqt (cr_ (cr_ (cl_ (cr_ (cl_ (cr_ (cr_ (cr_ (cr_ (cl_ (cr_ h)))))))))))).trans (congrArg (fun z => some (Value.int z)) (show (69 : Int32) = Int32.ofInt (sAt (-54) ((2 : Nat) : Int)) by decide))
  | 3, _ => exact (va_eqt (cl_ (cr_ (cr_ (cl_ (cr_ (cr_ (cr_ (cr_ (cl_ (cr_ h))))))))))).trans (congrArg (fun z => some (Value.int z)) (show (78 : Int32) = Int32.ofInt (sAt (-54) ((3 : Nat) : Int)) by decide))
  | j + 4, hj => exact absurd hj (by omega)
theorem ws_23 {args : Array Value} {s : State} {A : Nat → Prop} (h : (Jvm.Cond.and given_1 narrow_1).before args s = true) (hA : ∀ a : Nat, a < s.heap.size → ¬ A a) : strAt args s A (-56) := by
  refine str_of (N := 5) (tm := (Jvm.Term.string "ElectionHouse$Reader" 82)) rfl rfl (cl_ (cr_ (cr_ (cr_ (cl_ (cr_ (cr_ (cr_ (cr_ (cl_ (cr_ h))))))))))) (cr_ (cr_ (cr_ (cr_ (cl_ (cr_ (cr_ (cr_ (cr_ (cl_ (cr_ h))))))))))) (cl_ (cl_ (cl_ (cr_ (cr_ (cr_ (cr_ (cr_ (cl_ (cr_ h)))))))))) (va_eqt (cl_ (cr_ (cl_ (cl_ (cr_ (cr_ (cr_ (cr_ (cr_ (cl_ (cr_ h)))))))))))) (fun j hj => ?_) hA
  match j, hj with
  | 0, _ => exact (va_eqt (cr_ (cr_ (cl_ (cl_ (cr_ (cr_ (cr_ (cr_ (cr_ (cl_ (cr_ h)))))))))))).trans (congrArg (fun z => some (Value.int z)) (show (76 : Int32) = Int32.ofInt (sAt (-56) ((0 : Nat) : Int)) by decide))
  | 1, _ => exact (va_eqt (cl_ (cr_ (cl_ (cr_ (cr_ (cr_ (cr_ (cr_ (cl_ (cr_ h))))))))))).trans (congrArg (fun z => some (Value.int z)) (show (69 : Int32) = Int32.ofInt (sAt (-56) ((1 : Nat) : Int)) by decide))
  | 2, _ => exact (va_eqt (cl_ (cr_ (cr_ (cl_ (cr_ (cr_ (cr_ (cr_ (cr_ (cl_ (cr_ h)))))))))))).trans (congrArg (fun z => some (Value.int z)) (show (86 : Int32) = Int32.ofInt (sAt (-56) ((2 : Nat) : Int)) by decide))
  | 3, _ => exact (va_eqt (cr_ (cr_ (cr_ (cl_ (cr_ (cr_ (cr_ (cr_ (cr_ (cl_ (cr_ h)))))))))))).trans (congrArg (fun z => some (Value.int z)) (show (69 : Int32) = Int32.ofInt (sAt (-56) ((3 : Nat) : Int)) by decide))
  | 4, _ => exact (va_eqt (cl_ (cl_ (cr_ (cr_ (cr_ (cr_ (cr_ (cr_ (cl_ (cr_ h))))))))))).trans (congrArg (fun z => some (Value.int z)) (show (76 : Int32) = Int32.ofInt (sAt (-56) ((4 : Nat) : Int)) by decide))
  | j + 5, hj => exact absurd hj (by omega)
theorem ws_24 {args : Array Value} {s : State} {A : Nat → Prop} (h : (Jvm.Cond.and given_1 narrow_1).before args s = true) (hA : ∀ a : Nat, a < s.heap.size → ¬ A a) : strAt args s A (-58) := by
  refine str_of (N := 3) (tm := (Jvm.Term.string "ElectionHouse$Reader" 84)) rfl rfl (cl_ (cr_ (cl_ (cr_ (cr_ (cr_ (cr_ (cr_ (cr_ (cl_ (cr_ h))))))))))) (cr_ (cr_ (cl_ (cr_ (cr_ (cr_ (cr_ (cr_ (cr_ (cl_ (cr_ h))))))))))) (cl_ (cl_ (cr_ (cr_ (cr_ (cr_ (cr_ (cr_ (cr_ (cl_ (cr_ h))))))))))) (va_eqt (cr_ (cl_ (cr_ (cr_ (cr_ (cr_ (cr_ (cr_ (cr_ (cl_ (cr_ h)))))))))))) (fun j hj => ?_) hA
  match j, hj with
  | 0, _ => exact (va_eqt (cl_ (cr_ (cr_ (cr_ (cr_ (cr_ (cr_ (cr_ (cr_ (cl_ (cr_ h)))))))))))).trans (congrArg (fun z => some (Value.int z)) (show (77 : Int32) = Int32.ofInt (sAt (-58) ((0 : Nat) : Int)) by decide))
  | 1, _ => exact (va_eqt (cr_ (cr_ (cr_ (cr_ (cr_ (cr_ (cr_ (cr_ (cr_ (cl_ (cr_ h)))))))))))).trans (congrArg (fun z => some (Value.int z)) (show (79 : Int32) = Int32.ofInt (sAt (-58) ((1 : Nat) : Int)) by decide))
  | 2, _ => exact (va_eqt (cl_ (cl_ (cl_ (cl_ (cl_ (cl_ (cl_ (cl_ (cl_ (cr_ (cr_ h)))))))))))).trans (congrArg (fun z => some (Value.int z)) (show (78 : Int32) = Int32.ofInt (sAt (-58) ((2 : Nat) : Int)) by decide))
  | j + 3, hj => exact absurd hj (by omega)
theorem ws_25 {args : Array Value} {s : State} {A : Nat → Prop} (h : (Jvm.Cond.and given_1 narrow_1).before args s = true) (hA : ∀ a : Nat, a < s.heap.size → ¬ A a) : strAt args s A (-60) := by
  refine str_of (N := 3) (tm := (Jvm.Term.string "ElectionHouse$Reader" 86)) rfl rfl (cl_ (cr_ (cl_ (cl_ (cl_ (cl_ (cl_ (cl_ (cl_ (cl_ (cr_ (cr_ h)))))))))))) (cr_ (cr_ (cl_ (cl_ (cl_ (cl_ (cl_ (cl_ (cl_ (cl_ (cr_ (cr_ h)))))))))))) (cl_ (cr_ (cl_ (cl_ (cl_ (cl_ (cl_ (cl_ (cl_ (cr_ (cr_ h))))))))))) (va_eqt (cl_ (cr_ (cr_ (cl_ (cl_ (cl_ (cl_ (cl_ (cl_ (cl_ (cr_ (cr_ h))))))))))))) (fun j hj => ?_) hA
  match j, hj with
  | 0, _ => exact (va_eqt (cr_ (cr_ (cr_ (cl_ (cl_ (cl_ (cl_ (cl_ (cl_ (cl_ (cr_ (cr_ h))))))))))))).trans (congrArg (fun z => some (Value.int z)) (show (84 : Int32) = Int32.ofInt (sAt (-60) ((0 : Nat) : Int)) by decide))
  | 1, _ => exact (va_eqt (cl_ (cl_ (cr_ (cl_ (cl_ (cl_ (cl_ (cl_ (cl_ (cr_ (cr_ h)))))))))))).trans (congrArg (fun z => some (Value.int z)) (show (85 : Int32) = Int32.ofInt (sAt (-60) ((1 : Nat) : Int)) by decide))
  | 2, _ => exact (va_eqt (cl_ (cr_ (cl_ (cr_ (cl_ (cl_ (cl_ (cl_ (cl_ (cl_ (cr_ (cr_ h))))))))))))).trans (congrArg (fun z => some (Value.int z)) (show (69 : Int32) = Int32.ofInt (sAt (-60) ((2 : Nat) : Int)) by decide))
  | j + 3, hj => exact absurd hj (by omega)
theorem ws_26 {args : Array Value} {s : State} {A : Nat → Prop} (h : (Jvm.Cond.and given_1 narrow_1).before args s = true) (hA : ∀ a : Nat, a < s.heap.size → ¬ A a) : strAt args s A (-62) := by
  refine str_of (N := 3) (tm := (Jvm.Term.string "ElectionHouse$Reader" 88)) rfl rfl (cr_ (cr_ (cl_ (cr_ (cl_ (cl_ (cl_ (cl_ (cl_ (cl_ (cr_ (cr_ h)))))))))))) (cl_ (cr_ (cr_ (cl_ (cl_ (cl_ (cl_ (cl_ (cl_ (cr_ (cr_ h))))))))))) (cl_ (cr_ (cr_ (cr_ (cl_ (cl_ (cl_ (cl_ (cl_ (cl_ (cr_ (cr_ h)))))))))))) (va_eqt (cr_ (cr_ (cr_ (cr_ (cl_ (cl_ (cl_ (cl_ (cl_ (cl_ (cr_ (cr_ h))))))))))))) (fun j hj => ?_) hA
  match j, hj with
  | 0, _ => exact (va_eqt (cl_ (cl_ (cl_ (cr_ (cl_ (cl_ (cl_ (cl_ (cl_ (cr_ (cr_ h)))))))))))).trans (congrArg (fun z => some (Value.int z)) (show (87 : Int32) = Int32.ofInt (sAt (-62) ((0 : Nat) : Int)) by decide))
  | 1, _ => exact (va_eqt (cl_ (cr_ (cl_ (cl_ (cr_ (cl_ (cl_ (cl_ (cl_ (cl_ (cr_ (cr_ h))))))))))))).trans (congrArg (fun z => some (Value.int z)) (show (69 : Int32) = Int32.ofInt (sAt (-62) ((1 : Nat) : Int)) by decide))
  | 2, _ => exact (va_eqt (cr_ (cr_ (cl_ (cl_ (cr_ (cl_ (cl_ (cl_ (cl_ (cl_ (cr_ (cr_ h))))))))))))).trans (congrArg (fun z => some (Value.int z)) (show (68 : Int32) = Int32.ofInt (sAt (-62) ((2 : Nat) : Int)) by decide))
  | j + 3, hj => exact absurd hj (by omega)
theorem ws_27 {args : Array Value} {s : State} {A : Nat → Prop} (h : (Jvm.Cond.and given_1 narrow_1).before args s = true) (hA : ∀ a : Nat, a < s.heap.size → ¬ A a) : strAt args s A (-64) := by
  refine str_of (N := 3) (tm := (Jvm.Term.string "ElectionHouse$Reader" 90)) rfl rfl (cl_ (cr_ (cl_ (cr_ (cl_ (cl_ (cl_ (cl_ (cl_ (cr_ (cr_ h))))))))))) (cl_ (cr_ (cr_ (cl_ (cr_ (cl_ (cl_ (cl_ (cl_ (cl_ (cr_ (cr_ h)))))))))))) (cr_ (cr_ (cr_ (cl_ (cr_ (cl_ (cl_ (cl_ (cl_ (cl_ (cr_ (cr_ h)))))))))))) (va_eqt (cl_ (cl_ (cr_ (cr_ (cl_ (cl_ (cl_ (cl_ (cl_ (cr_ (cr_ h)))))))))))) (fun j hj => ?_) hA
  match j, hj with
  | 0, _ => exact (va_eqt (cl_ (cr_ (cl_ (cr_ (cr_ (cl_ (cl_ (cl_ (cl_ (cl_ (cr_ (cr_ h))))))))))))).trans (congrArg (fun z => some (Value.int z)) (show (84 : Int32) = Int32.ofInt (sAt (-64) ((0 : Nat) : Int)) by decide))
  | 1, _ => exact (va_eqt (cr_ (cr_ (cl_ (cr_ (cr_ (cl_ (cl_ (cl_ (cl_ (cl_ (cr_ (cr_ h))))))))))))).trans (congrArg (fun z => some (Value.int z)) (show (72 : Int32) = Int32.ofInt (sAt (-64) ((1 : Nat) : Int)) by decide))
  | 2, _ => exact (va_eqt (cl_ (cl_ (cr_ (cr_ (cr_ (cl_ (cl_ (cl_ (cl_ (cl_ (cr_ (cr_ h))))))))))))).trans (congrArg (fun z => some (Value.int z)) (show (85 : Int32) = Int32.ofInt (sAt (-64) ((2 : Nat) : Int)) by decide))
  | j + 3, hj => exact absurd hj (by omega)
theorem ws_28 {args : Array Value} {s : State} {A : Nat → Prop} (h : (Jvm.Cond.and given_1 narrow_1).before args s = true) (hA : ∀ a : Nat, a < s.heap.size → ¬ A a) : strAt args s A (-66) := by
  refine str_of (N := 3) (tm := (Jvm.Term.string "ElectionHouse$Reader" 92)) rfl rfl (cr_ (cl_ (cr_ (cr_ (cr_ (cl_ (cl_ (cl_ (cl_ (cl_ (cr_ (cr_ h)))))))))))) (cl_ (cr_ (cr_ (cr_ (cr_ (cl_ (cl_ (cl_ (cl_ (cl_ (cr_ (cr_ h)))))))))))) (cr_ (cr_ (cr_ (cr_ (cr_ (cl_ (cl_ (cl_ (cl_ (cl_ (cr_ (cr_ h)))))))))))) (va_eqt (cl_ (cl_ (cl_ (cl_ (cr_ (cl_ (cl_ (cl_ (cl_ (cr_ (cr_ h)))))))))))) (fun j hj => ?_) hA
  match j, hj with
  | 0, _ => exact (va_eqt (cl_ (cr_ (cl_ (cl_ (cl_ (cr_ (cl_ (cl_ (cl_ (cl_ (cr_ (cr_ h))))))))))))).trans (congrArg (fun z => some (Value.int z)) (show (70 : Int32) = Int32.ofInt (sAt (-66) ((0 : Nat) : Int)) by decide))
  | 1, _ => exact (va_eqt (cr_ (cr_ (cl_ (cl_ (cl_ (cr_ (cl_ (cl_ (cl_ (cl_ (cr_ (cr_ h))))))))))))).trans (congrArg (fun z => some (Value.int z)) (show (82 : Int32) = Int32.ofInt (sAt (-66) ((1 : Nat) : Int)) by decide))
  | 2, _ => exact (va_eqt (cl_ (cr_ (cl_ (cl_ (cr_ (cl_ (cl_ (cl_ (cl_ (cr_ (cr_ h)))))))))))).trans (congrArg (fun z => some (Value.int z)) (show (73 : Int32) = Int32.ofInt (sAt (-66) ((2 : Nat) : Int)) by decide))
  | j + 3, hj => exact absurd hj (by omega)
theorem ws_29 {args : Array Value} {s : State} {A : Nat → Prop} (h : (Jvm.Cond.and given_1 narrow_1).before args s = true) (hA : ∀ a : Nat, a < s.heap.size → ¬ A a) : strAt args s A (-68) := by
  refine str_of (N := 3) (tm := (Jvm.Term.string "ElectionHouse$Reader" 94)) rfl rfl (cl_ (cr_ (cr_ (cl_ (cl_ (cr_ (cl_ (cl_ (cl_ (cl_ (cr_ (cr_ h)))))))))))) (cr_ (cr_ (cr_ (cl_ (cl_ (cr_ (cl_ (cl_ (cl_ (cl_ (cr_ (cr_ h)))))))))))) (cl_ (cl_ (cr_ (cl_ (cr_ (cl_ (cl_ (cl_ (cl_ (cr_ (cr_ h))))))))))) (va_eqt (cl_ (cr_ (cl_ (cr_ (cl_ (cr_ (cl_ (cl_ (cl_ (cl_ (cr_ (cr_ h))))))))))))) (fun j hj => ?_) hA
  match j, hj with
  | 0, _ => exact (va_eqt (cr_ (cr_ (cl_ (cr_ (cl_ (cr_ (cl_ (cl_ (cl_ (cl_ (cr_ (cr_ h))))))))))))).trans (congrArg (fun z => some (Value.int z)) (show (83 : Int32) = Int32.ofInt (sAt (-68) ((0 : Nat) : Int)) by decide))
  | 1, _ => exact (va_eqt (cl_ (cr_ (cr_ (cl_ (cr_ (cl_ (cl_ (cl_ (cl_ (cr_ (cr_ h)))))))))))).trans (congrArg (fun z => some (Value.int z)) (show (65 : Int32) = Int32.ofInt (sAt (-68) ((1 : Nat) : Int)) by decide))
  | 2, _ => exact (va_eqt (cl_ (cr_ (cr_ (cr_ (cl_ (cr_ (cl_ (cl_ (cl_ (cl_ (cr_ (cr_ h))))))))))))).trans (congrArg (fun z => some (Value.int z)) (show (84 : Int32) = Int32.ofInt (sAt (-68) ((2 : Nat) : Int)) by decide))
  | j + 3, hj => exact absurd hj (by omega)
theorem ws_30 {args : Array Value} {s : State} {A : Nat → Prop} (h : (Jvm.Cond.and given_1 narrow_1).before args s = true) (hA : ∀ a : Nat, a < s.heap.size → ¬ A a) : strAt args s A (-70) := by
  refine str_of (N := 3) (tm := (Jvm.Term.string "ElectionHouse$Reader" 96)) rfl rfl (cr_ (cr_ (cr_ (cr_ (cl_ (cr_ (cl_ (cl_ (cl_ (cl_ (cr_ (cr_ h)))))))))))) (cl_ (cl_ (cl_ (cr_ (cr_ (cl_ (cl_ (cl_ (cl_ (cr_ (cr_ h))))))))))) (cl_ (cr_ (cl_ (cl_ (cr_ (cr_ (cl_ (cl_ (cl_ (cl_ (cr_ (cr_ h)))))))))))) (va_eqt (cr_ (cr_ (cl_ (cl_ (cr_ (cr_ (cl_ (cl_ (cl_ (cl_ (cr_ (cr_ h))))))))))))) (fun j hj => ?_) hA
  match j, hj with
  | 0, _ => exact (va_eqt (cl_ (cr_ (cl_ (cr_ (cr_ (cl_ (cl_ (cl_ (cl_ (cr_ (cr_ h)))))))))))).trans (congrArg (fun z => some (Value.int z)) (show (83 : Int32) = Int32.ofInt (sAt (-70) ((0 : Nat) : Int)) by decide))
  | 1, _ => exact (va_eqt (cl_ (cr_ (cr_ (cl_ (cr_ (cr_ (cl_ (cl_ (cl_ (cl_ (cr_ (cr_ h))))))))))))).trans (congrArg (fun z => some (Value.int z)) (show (85 : Int32) = Int32.ofInt (sAt (-70) ((1 : Nat) : Int)) by decide))
  | 2, _ => exact (va_eqt (cr_ (cr_ (cr_ (cl_ (cr_ (cr_ (cl_ (cl_ (cl_ (cl_ (cr_ (cr_ h))))))))))))).trans (congrArg (fun z => some (Value.int z)) (show (78 : Int32) = Int32.ofInt (sAt (-70) ((2 : Nat) : Int)) by decide))
  | j + 3, hj => exact absurd hj (by omega)
theorem ws_31 {args : Array Value} {s : State} {A : Nat → Prop} (h : (Jvm.Cond.and given_1 narrow_1).before args s = true) (hA : ∀ a : Nat, a < s.heap.size → ¬ A a) : strAt args s A (-72) := by
  refine str_of (N := 5) (tm := (Jvm.Term.string "ElectionHouse$Reader" 98)) rfl rfl (cl_ (cl_ (cr_ (cr_ (cr_ (cl_ (cl_ (cl_ (cl_ (cr_ (cr_ h))))))))))) (cl_ (cr_ (cl_ (cr_ (cr_ (cr_ (cl_ (cl_ (cl_ (cl_ (cr_ (cr_ h)))))))))))) (cr_ (cr_ (cl_ (cr_ (cr_ (cr_ (cl_ (cl_ (cl_ (cl_ (cr_ (cr_ h)))))))))))) (va_eqt (cl_ (cl_ (cr_ (cr_ (cr_ (cr_ (cl_ (cl_ (cl_ (cl_ (cr_ (cr_ h))))))))))))) (fun j hj => ?_) hA
  match j, hj with
  | 0, _ => exact (va_eqt (cr_ (cl_ (cr_ (cr_ (cr_ (cr_ (cl_ (cl_ (cl_ (cl_ (cr_ (cr_ h))))))))))))).trans (congrArg (fun z => some (Value.int z)) (show (70 : Int32) = Int32.ofInt (sAt (-72) ((0 : Nat) : Int)) by decide))
  | 1, _ => exact (va_eqt (cl_ (cr_ (cr_ (cr_ (cr_ (cr_ (cl_ (cl_ (cl_ (cl_ (cr_ (cr_ h))))))))))))).trans (congrArg (fun z => some (Value.int z)) (show (73 : Int32) = Int32.ofInt (sAt (-72) ((1 : Nat) : Int)) by decide))
  | 2, _ => exact (va_eqt (cr_ (cr_ (cr_ (cr_ (cr_ (cr_ (cl_ (cl_ (cl_ (cl_ (cr_ (cr_ h))))))))))))).trans (congrArg (fun z => some (Value.int z)) (show (82 : Int32) = Int32.ofInt (sAt (-72) ((2 : Nat) : Int)) by decide))
  | 3, _ => exact (va_eqt (cl_ (cl_ (cl_ (cl_ (cl_ (cr_ (cl_ (cl_ (cl_ (cr_ (cr_ h)))))))))))).trans (congrArg (fun z => some (Value.int z)) (show (83 : Int32) = Int32.ofInt (sAt (-72) ((3 : Nat) : Int)) by decide))
  | 4, _ => exact (va_eqt (cl_ (cr_ (cl_ (cl_ (cl_ (cl_ (cr_ (cl_ (cl_ (cl_ (cr_ (cr_ h))))))))))))).trans (congrArg (fun z => some (Value.int z)) (show (84 : Int32) = Int32.ofInt (sAt (-72) ((4 : Nat) : Int)) by decide))
  | j + 5, hj => exact absurd hj (by omega)
theorem ws_32 {args : Array Value} {s : State} {A : Nat → Prop} (h : (Jvm.Cond.and given_1 narrow_1).before args s = true) (hA : ∀ a : Nat, a < s.heap.size → ¬ A a) : strAt args s A (-74) := by
  refine str_of (N := 5) (tm := (Jvm.Term.string "ElectionHouse$Reader" 100)) rfl rfl (cr_ (cr_ (cl_ (cl_ (cl_ (cl_ (cr_ (cl_ (cl_ (cl_ (cr_ (cr_ h)))))))))))) (cl_ (cr_ (cl_ (cl_ (cl_ (cr_ (cl_ (cl_ (cl_ (cr_ (cr_ h))))))))))) (cl_ (cr_ (cr_ (cl_ (cl_ (cl_ (cr_ (cl_ (cl_ (cl_ (cr_ (cr_ h)))))))))))) (va_eqt (cr_ (cr_ (cr_ (cl_ (cl_ (cl_ (cr_ (cl_ (cl_ (cl_ (cr_ (cr_ h))))))))))))) (fun j hj => ?_) hA
  match j, hj with
  | 0, _ => exact (va_eqt (cl_ (cl_ (cr_ (cl_ (cl_ (cr_ (cl_ (cl_ (cl_ (cr_ (cr_ h)))))))))))).trans (congrArg (fun z => some (Value.int z)) (show (66 : Int32) = Int32.ofInt (sAt (-74) ((0 : Nat) : Int)) by decide))
  | 1, _ => exact (va_eqt (cl_ (cr_ (cl_ (cr_ (cl_ (cl_ (cr_ (cl_ (cl_ (cl_ (cr_ (cr_ h))))))))))))).trans (congrArg (fun z => some (Value.int z)) (show (76 : Int32) = Int32.ofInt (sAt (-74) ((1 : Nat) : Int)) by decide))
  | 2, _ => exact (va_eqt (cr_ (cr_ (cl_ (cr_ (cl_ (cl_ (cr_ (cl_ (cl_ (cl_ (cr_ (cr_ h))))))))))))).trans (congrArg (fun z => some (Value.int z)) (show (79 : Int32) = Int32.ofInt (sAt (-74) ((2 : Nat) : Int)) by decide))
  | 3, _ => exact (va_eqt (cl_ (cr_ (cr_ (cl_ (cl_ (cr_ (cl_ (cl_ (cl_ (cr_ (cr_ h)))))))))))).trans (congrArg (fun z => some (Value.int z)) (show (67 : Int32) = Int32.ofInt (sAt (-74) ((3 : Nat) : Int)) by decide))
  | 4, _ => exact (va_eqt (cl_ (cr_ (cr_ (cr_ (cl_ (cl_ (cr_ (cl_ (cl_ (cl_ (cr_ (cr_ h))))))))))))).trans (congrArg (fun z => some (Value.int z)) (show (75 : Int32) = Int32.ofInt (sAt (-74) ((4 : Nat) : Int)) by decide))
  | j + 5, hj => exact absurd hj (by omega)
theorem ws_33 {args : Array Value} {s : State} {A : Nat → Prop} (h : (Jvm.Cond.and given_1 narrow_1).before args s = true) (hA : ∀ a : Nat, a < s.heap.size → ¬ A a) : strAt args s A (-76) := by
  refine str_of (N := 8) (tm := (Jvm.Term.string "ElectionHouse$Reader" 102)) rfl rfl (cr_ (cr_ (cr_ (cr_ (cl_ (cl_ (cr_ (cl_ (cl_ (cl_ (cr_ (cr_ h)))))))))))) (cl_ (cl_ (cl_ (cr_ (cl_ (cr_ (cl_ (cl_ (cl_ (cr_ (cr_ h))))))))))) (cl_ (cr_ (cl_ (cl_ (cr_ (cl_ (cr_ (cl_ (cl_ (cl_ (cr_ (cr_ h)))))))))))) (va_eqt (cr_ (cr_ (cl_ (cl_ (cr_ (cl_ (cr_ (cl_ (cl_ (cl_ (cr_ (cr_ h))))))))))))) (fun j hj => ?_) hA
  match j, hj with
  | 0, _ => exact (va_eqt (cl_ (cr_ (cl_ (cr_ (cl_ (cr_ (cl_ (cl_ (cl_ (cr_ (cr_ h)))))))))))).trans (congrArg (fun z => some (Value.int z)) (show (65 : Int32) = Int32.ofInt (sAt (-76) ((0 : Nat) : Int)) by decide))
  | 1, _ => exact (va_eqt (cl_ (cr_ (cr_ (cl_ (cr_ (cl_ (cr_ (cl_ (cl_ (cl_ (cr_ (cr_ h))))))))))))).trans (congrArg (fun z => some (Value.int z)) (show (80 : Int32) = Int32.ofInt (sAt (-76) ((1 : Nat) : Int)) by decide))
  | 2, _ => exact (va_eqt (cr_ (cr_ (cr_ (cl_ (cr_ (cl_ (cr_ (cl_ (cl_ (cl_ (cr_ (cr_ h))))))))))))).trans (congrArg (fun z => some (Value.int z)) (show (80 : Int32) = Int32.ofInt (sAt (-76) ((2 : Nat) : Int)) by decide))
  | 3, _ => exact (va_eqt (cl_ (cl_ (cr_ (cr_ (cl_ (cr_ (cl_ (cl_ (cl_ (cr_ (cr_ h)))))))))))).trans (congrArg (fun z => some (Value.int z)) (show (82 : Int32) = Int32.ofInt (sAt (-76) ((3 : Nat) : Int)) by decide))
  | 4, _ => exact (va_eqt (cl_ (cr_ (cl_ (cr_ (cr_ (cl_ (cr_ (cl_ (cl_ (cl_ (cr_ (cr_ h))))))))))))).trans (congrArg (fun z => some (Value.int z)) (show (79 : Int32) = Int32.ofInt (sAt (-76) ((4 : Nat) : Int)) by decide))
  | 5, _ => exact (va_eqt (cr_ (cr_ (cl_ (cr_ (cr_ (cl_ (cr_ (cl_ (cl_ (cl_ (cr_ (cr_ h))))))))))))).trans (congrArg (fun z => some (Value.int z)) (show (86 : Int32) = Int32.ofInt (sAt (-76) ((5 : Nat) : Int)) by decide))
  | 6, _ => exact (va_eqt (cl_ (cl_ (cr_ (cr_ (cr_ (cl_ (cr_ (cl_ (cl_ (cl_ (cr_ (cr_ h))))))))))))).trans (congrArg (fun z => some (Value.int z)) (show (65 : Int32) = Int32.ofInt (sAt (-76) ((6 : Nat) : Int)) by decide))
  | 7, _ => exact (va_eqt (cr_ (cl_ (cr_ (cr_ (cr_ (cl_ (cr_ (cl_ (cl_ (cl_ (cr_ (cr_ h))))))))))))).trans (congrArg (fun z => some (Value.int z)) (show (76 : Int32) = Int32.ofInt (sAt (-76) ((7 : Nat) : Int)) by decide))
  | j + 8, hj => exact absurd hj (by omega)
theorem ws_34 {args : Array Value} {s : State} {A : Nat → Prop} (h : (Jvm.Cond.and given_1 narrow_1).before args s = true) (hA : ∀ a : Nat, a < s.heap.size → ¬ A a) : strAt args s A (-78) := by
  refine str_of (N := 6) (tm := (Jvm.Term.string "ElectionHouse$Reader" 104)) rfl rfl (cl_ (cr_ (cr_ (cr_ (cr_ (cl_ (cr_ (cl_ (cl_ (cl_ (cr_ (cr_ h)))))))))))) (cr_ (cr_ (cr_ (cr_ (cr_ (cl_ (cr_ (cl_ (cl_ (cl_ (cr_ (cr_ h)))))))))))) (cl_ (cl_ (cl_ (cl_ (cr_ (cr_ (cl_ (cl_ (cl_ (cr_ (cr_ h))))))))))) (va_eqt (cl_ (cr_ (cl_ (cl_ (cl_ (cr_ (cr_ (cl_ (cl_ (cl_ (cr_ (cr_ h))))))))))))) (fun j hj => ?_) hA
  match j, hj with
  | 0, _ => exact (va_eqt (cr_ (cr_ (cl_ (cl_ (cl_ (cr_ (cr_ (cl_ (cl_ (cl_ (cr_ (cr_ h))))))))))))).trans (congrArg (fun z => some (Value.int z)) (show (80 : Int32) = Int32.ofInt (sAt (-78) ((0 : Nat) : Int)) by decide))
  | 1, _ => exact (va_eqt (cl_ (cr_ (cl_ (cl_ (cr_ (cr_ (cl_ (cl_ (cl_ (cr_ (cr_ h)))))))))))).trans (congrArg (fun z => some (Value.int z)) (show (79 : Int32) = Int32.ofInt (sAt (-78) ((1 : Nat) : Int)) by decide))
  | 2, _ => exact (va_eqt (cl_ (cr_ (cr_ (cl_ (cl_ (cr_ (cr_ (cl_ (cl_ (cl_ (cr_ (cr_ h))))))))))))).trans (congrArg (fun z => some (Value.int z)) (show (73 : Int32) = Int32.ofInt (sAt (-78) ((2 : Nat) : Int)) by decide))
  | 3, _ => exact (va_eqt (cr_ (cr_ (cr_ (cl_ (cl_ (cr_ (cr_ (cl_ (cl_ (cl_ (cr_ (cr_ h))))))))))))).trans (congrArg (fun z => some (Value.int z)) (show (78 : Int32) = Int32.ofInt (sAt (-78) ((3 : Nat) : Int)) by decide))
  | 4, _ => exact (va_eqt (cl_ (cl_ (cr_ (cl_ (cr_ (cr_ (cl_ (cl_ (cl_ (cr_ (cr_ h)))))))))))).trans (congrArg (fun z => some (Value.int z)) (show (84 : Int32) = Int32.ofInt (sAt (-78) ((4 : Nat) : Int)) by decide))
  | 5, _ => exact (va_eqt (cl_ (cr_ (cl_ (cr_ (cl_ (cr_ (cr_ (cl_ (cl_ (cl_ (cr_ (cr_ h))))))))))))).trans (congrArg (fun z => some (Value.int z)) (show (83 : Int32) = Int32.ofInt (sAt (-78) ((5 : Nat) : Int)) by decide))
  | j + 6, hj => exact absurd hj (by omega)
theorem ws_35 {args : Array Value} {s : State} {A : Nat → Prop} (h : (Jvm.Cond.and given_1 narrow_1).before args s = true) (hA : ∀ a : Nat, a < s.heap.size → ¬ A a) : strAt args s A (-80) := by
  refine str_of (N := 6) (tm := (Jvm.Term.string "ElectionHouse$Reader" 106)) rfl rfl (cr_ (cr_ (cl_ (cr_ (cl_ (cr_ (cr_ (cl_ (cl_ (cl_ (cr_ (cr_ h)))))))))))) (cl_ (cr_ (cr_ (cl_ (cr_ (cr_ (cl_ (cl_ (cl_ (cr_ (cr_ h))))))))))) (cl_ (cr_ (cr_ (cr_ (cl_ (cr_ (cr_ (cl_ (cl_ (cl_ (cr_ (cr_ h)))))))))))) (va_eqt (cr_ (cr_ (cr_ (cr_ (cl_ (cr_ (cr_ (cl_ (cl_ (cl_ (cr_ (cr_ h))))))))))))) (fun j hj => ?_) hA
  match j, hj with
  | 0, _ => exact (va_eqt (cl_ (cl_ (cl_ (cr_ (cr_ (cr_ (cl_ (cl_ (cl_ (cr_ (cr_ h)))))))))))).trans (congrArg (fun z => some (Value.int z)) (show (77 : Int32) = Int32.ofInt (sAt (-80) ((0 : Nat) : Int)) by decide))
  | 1, _ => exact (va_eqt (cl_ (cr_ (cl_ (cl_ (cr_ (cr_ (cr_ (cl_ (cl_ (cl_ (cr_ (cr_ h))))))))))))).trans (congrArg (fun z => some (Value.int z)) (show (69 : Int32) = Int32.ofInt (sAt (-80) ((1 : Nat) : Int)) by decide))
  | 2, _ => exact (va_eqt (cr_ (cr_ (cl_ (cl_ (cr_ (cr_ (cr_ (cl_ (cl_ (cl_ (cr_ (cr_ h))))))))))))).trans (congrArg (fun z => some (Value.int z)) (show (68 : Int32) = Int32.ofInt (sAt (-80) ((2 : Nat) : Int)) by decide))
  | 3, _ => exact (va_eqt (cl_ (cr_ (cl_ (cr_ (cr_ (cr_ (cl_ (cl_ (cl_ (cr_ (cr_ h)))))))))))).trans (congrArg (fun z => some (Value.int z)) (show (73 : Int32) = Int32.ofInt (sAt (-80) ((3 : Nat) : Int)) by decide))
  | 4, _ => exact (va_eqt (cl_ (cr_ (cr_ (cl_ (cr_ (cr_ (cr_ (cl_ (cl_ (cl_ (cr_ (cr_ h))))))))))))).trans (congrArg (fun z => some (Value.int z)) (show (65 : Int32) = Int32.ofInt (sAt (-80) ((4 : Nat) : Int)) by decide))
  | 5, _ => exact (va_eqt (cr_ (cr_ (cr_ (cl_ (cr_ (cr_ (cr_ (cl_ (cl_ (cl_ (cr_ (cr_ h))))))))))))).trans (congrArg (fun z => some (Value.int z)) (show (78 : Int32) = Int32.ofInt (sAt (-80) ((5 : Nat) : Int)) by decide))
  | j + 6, hj => exact absurd hj (by omega)
theorem ws_36 {args : Array Value} {s : State} {A : Nat → Prop} (h : (Jvm.Cond.and given_1 narrow_1).before args s = true) (hA : ∀ a : Nat, a < s.heap.size → ¬ A a) : strAt args s A (-82) := by
  refine str_of (N := 5) (tm := (Jvm.Term.string "ElectionHouse$Reader" 108)) rfl rfl (cl_ (cl_ (cr_ (cr_ (cr_ (cr_ (cl_ (cl_ (cl_ (cr_ (cr_ h))))))))))) (cl_ (cr_ (cl_ (cr_ (cr_ (cr_ (cr_ (cl_ (cl_ (cl_ (cr_ (cr_ h)))))))))))) (cr_ (cr_ (cl_ (cr_ (cr_ (cr_ (cr_ (cl_ (cl_ (cl_ (cr_ (cr_ h)))))))))))) (va_eqt (cl_ (cl_ (cr_ (cr_ (cr_ (cr_ (cr_ (cl_ (cl_ (cl_ (cr_ (cr_ h))))))))))))) (fun j hj => ?_) hA
  match j, hj with
  | 0, _ => exact (va_eqt (cr_ (cl_ (cr_ (cr_ (cr_ (cr_ (cr_ (cl_ (cl_ (cl_ (cr_ (cr_ h))))))))))))).trans (congrArg (fun z => some (Value.int z)) (show (82 : Int32) = Int32.ofInt (sAt (-82) ((0 : Nat) : Int)) by decide))
  | 1, _ => exact (va_eqt (cl_ (cr_ (cr_ (cr_ (cr_ (cr_ (cr_ (cl_ (cl_ (cl_ (cr_ (cr_ h))))))))))))).trans (congrArg (fun z => some (Value.int z)) (show (65 : Int32) = Int32.ofInt (sAt (-82) ((1 : Nat) : Int)) by decide))
  | 2, _ => exact (va_eqt (cr_ (cr_ (cr_ (cr_ (cr_ (cr_ (cr_ (cl_ (cl_ (cl_ (cr_ (cr_ h))))))))))))).trans (congrArg (fun z => some (Value.int z)) (show (78 : Int32) = Int32.ofInt (sAt (-82) ((2 : Nat) : Int)) by decide))
  | 3, _ => exact (va_eqt (cl_ (cl_ (cl_ (cl_ (cl_ (cl_ (cr_ (cl_ (cl_ (cr_ (cr_ h)))))))))))).trans (congrArg (fun z => some (Value.int z)) (show (75 : Int32) = Int32.ofInt (sAt (-82) ((3 : Nat) : Int)) by decide))
  | 4, _ => exact (va_eqt (cl_ (cr_ (cl_ (cl_ (cl_ (cl_ (cl_ (cr_ (cl_ (cl_ (cr_ (cr_ h))))))))))))).trans (congrArg (fun z => some (Value.int z)) (show (83 : Int32) = Int32.ofInt (sAt (-82) ((4 : Nat) : Int)) by decide))
  | j + 5, hj => exact absurd hj (by omega)
theorem ws_37 {args : Array Value} {s : State} {A : Nat → Prop} (h : (Jvm.Cond.and given_1 narrow_1).before args s = true) (hA : ∀ a : Nat, a < s.heap.size → ¬ A a) : strAt args s A (-84) := by
  refine str_of (N := 3) (tm := (Jvm.Term.string "ElectionHouse$Reader" 110)) rfl rfl (cr_ (cr_ (cl_ (cl_ (cl_ (cl_ (cl_ (cr_ (cl_ (cl_ (cr_ (cr_ h)))))))))))) (cl_ (cr_ (cl_ (cl_ (cl_ (cl_ (cr_ (cl_ (cl_ (cr_ (cr_ h))))))))))) (cl_ (cr_ (cr_ (cl_ (cl_ (cl_ (cl_ (cr_ (cl_ (cl_ (cr_ (cr_ h)))))))))))) (va_eqt (cr_ (cr_ (cr_ (cl_ (cl_ (cl_ (cl_ (cr_ (cl_ (cl_ (cr_ (cr_ h))))))))))))) (fun j hj => ?_) hA
  match j, hj with
  | 0, _ => exact (va_eqt (cl_ (cl_ (cr_ (cl_ (cl_ (cl_ (cr_ (cl_ (cl_ (cr_ (cr_ h)))))))))))).trans (congrArg (fun z => some (Value.int z)) (show (79 : Int32) = Int32.ofInt (sAt (-84) ((0 : Nat) : Int)) by decide))
  | 1, _ => exact (va_eqt (cl_ (cr_ (cl_ (cr_ (cl_ (cl_ (cl_ (cr_ (cl_ (cl_ (cr_ (cr_ h))))))))))))).trans (congrArg (fun z => some (Value.int z)) (show (85 : Int32) = Int32.ofInt (sAt (-84) ((1 : Nat) : Int)) by decide))
  | 2, _ => exact (va_eqt (cr_ (cr_ (cl_ (cr_ (cl_ (cl_ (cl_ (cr_ (cl_ (cl_ (cr_ (cr_ h))))))))))))).trans (congrArg (fun z => some (Value.int z)) (show (84 : Int32) = Int32.ofInt (sAt (-84) ((2 : Nat) : Int)) by decide))
  | j + 3, hj => exact absurd hj (by omega)
theorem ws_38 {args : Array Value} {s : State} {A : Nat → Prop} (h : (Jvm.Cond.and given_1 narrow_1).before args s = true) (hA : ∀ a : Nat, a < s.heap.size → ¬ A a) : strAt args s A (-86) := by
  refine str_of (N := 5) (tm := (Jvm.Term.string "ElectionHouse$Reader" 112)) rfl rfl (cl_ (cr_ (cr_ (cl_ (cl_ (cl_ (cr_ (cl_ (cl_ (cr_ (cr_ h))))))))))) (cl_ (cr_ (cr_ (cr_ (cl_ (cl_ (cl_ (cr_ (cl_ (cl_ (cr_ (cr_ h)))))))))))) (cr_ (cr_ (cr_ (cr_ (cl_ (cl_ (cl_ (cr_ (cl_ (cl_ (cr_ (cr_ h)))))))))))) (va_eqt (cl_ (cl_ (cl_ (cr_ (cl_ (cl_ (cr_ (cl_ (cl_ (cr_ (cr_ h)))))))))))) (fun j hj => ?_) hA
  match j, hj with
  | 0, _ => exact (va_eqt (cl_ (cr_ (cl_ (cl_ (cr_ (cl_ (cl_ (cr_ (cl_ (cl_ (cr_ (cr_ h))))))))))))).trans (congrArg (fun z => some (Value.int z)) (show (76 : Int32) = Int32.ofInt (sAt (-86) ((0 : Nat) : Int)) by decide))
  | 1, _ => exact (va_eqt (cr_ (cr_ (cl_ (cl_ (cr_ (cl_ (cl_ (cr_ (cl_ (cl_ (cr_ (cr_ h))))))))))))).trans (congrArg (fun z => some (Value.int z)) (show (69 : Int32) = Int32.ofInt (sAt (-86) ((1 : Nat) : Int)) by decide))
  | 2, _ => exact (va_eqt (cl_ (cr_ (cl_ (cr_ (cl_ (cl_ (cr_ (cl_ (cl_ (cr_ (cr_ h)))))))))))).trans (congrArg (fun z => some (Value.int z)) (show (65 : Int32) = Int32.ofInt (sAt (-86) ((2 : Nat) : Int)) by decide))
  | 3, _ => exact (va_eqt (cl_ (cr_ (cr_ (cl_ (cr_ (cl_ (cl_ (cr_ (cl_ (cl_ (cr_ (cr_ h))))))))))))).trans (congrArg (fun z => some (Value.int z)) (show (83 : Int32) = Int32.ofInt (sAt (-86) ((3 : Nat) : Int)) by decide))
  | 4, _ => exact (va_eqt (cr_ (cr_ (cr_ (cl_ (cr_ (cl_ (cl_ (cr_ (cl_ (cl_ (cr_ (cr_ h))))))))))))).trans (congrArg (fun z => some (Value.int z)) (show (84 : Int32) = Int32.ofInt (sAt (-86) ((4 : Nat) : Int)) by decide))
  | j + 5, hj => exact absurd hj (by omega)
theorem ws_39 {args : Array Value} {s : State} {A : Nat → Prop} (h : (Jvm.Cond.and given_1 narrow_1).before args s = true) (hA : ∀ a : Nat, a < s.heap.size → ¬ A a) : strAt args s A (-88) := by
  refine str_of (N := 5) (tm := (Jvm.Term.string "ElectionHouse$Reader" 114)) rfl rfl (cl_ (cl_ (cr_ (cr_ (cl_ (cl_ (cr_ (cl_ (cl_ (cr_ (cr_ h))))))))))) (cl_ (cr_ (cl_ (cr_ (cr_ (cl_ (cl_ (cr_ (cl_ (cl_ (cr_ (cr_ h)))))))))))) (cr_ (cr_ (cl_ (cr_ (cr_ (cl_ (cl_ (cr_ (cl_ (cl_ (cr_ (cr_ h)))))))))))) (va_eqt (cl_ (cl_ (cr_ (cr_ (cr_ (cl_ (cl_ (cr_ (cl_ (cl_ (cr_ (cr_ h))))))))))))) (fun j hj => ?_) hA
  match j, hj with
  | 0, _ => exact (va_eqt (cr_ (cl_ (cr_ (cr_ (cr_ (cl_ (cl_ (cr_ (cl_ (cl_ (cr_ (cr_ h))))))))))))).trans (congrArg (fun z => some (Value.int z)) (show (80 : Int32) = Int32.ofInt (sAt (-88) ((0 : Nat) : Int)) by decide))
  | 1, _ => exact (va_eqt (cl_ (cr_ (cr_ (cr_ (cr_ (cl_ (cl_ (cr_ (cl_ (cl_ (cr_ (cr_ h))))))))))))).trans (congrArg (fun z => some (Value.int z)) (show (65 : Int32) = Int32.ofInt (sAt (-88) ((1 : Nat) : Int)) by decide))
  | 2, _ => exact (va_eqt (cr_ (cr_ (cr_ (cr_ (cr_ (cl_ (cl_ (cr_ (cl_ (cl_ (cr_ (cr_ h))))))))))))).trans (congrArg (fun z => some (Value.int z)) (show (73 : Int32) = Int32.ofInt (sAt (-88) ((2 : Nat) : Int)) by decide))
  | 3, _ => exact (va_eqt (cl_ (cl_ (cl_ (cl_ (cr_ (cl_ (cr_ (cl_ (cl_ (cr_ (cr_ h)))))))))))).trans (congrArg (fun z => some (Value.int z)) (show (82 : Int32) = Int32.ofInt (sAt (-88) ((3 : Nat) : Int)) by decide))
  | 4, _ => exact (va_eqt (cl_ (cr_ (cl_ (cl_ (cl_ (cr_ (cl_ (cr_ (cl_ (cl_ (cr_ (cr_ h))))))))))))).trans (congrArg (fun z => some (Value.int z)) (show (83 : Int32) = Int32.ofInt (sAt (-88) ((4 : Nat) : Int)) by decide))
  | j + 5, hj => exact absurd hj (by omega)
theorem ws_40 {args : Array Value} {s : State} {A : Nat → Prop} (h : (Jvm.Cond.and given_1 narrow_1).before args s = true) (hA : ∀ a : Nat, a < s.heap.size → ¬ A a) : strAt args s A (-90) := by
  refine str_of (N := 5) (tm := (Jvm.Term.string "ElectionHouse$Reader" 116)) rfl rfl (cr_ (cr_ (cl_ (cl_ (cl_ (cr_ (cl_ (cr_ (cl_ (cl_ (cr_ (cr_ h)))))))))))) (cl_ (cr_ (cl_ (cl_ (cr_ (cl_ (cr_ (cl_ (cl_ (cr_ (cr_ h))))))))))) (cl_ (cr_ (cr_ (cl_ (cl_ (cr_ (cl_ (cr_ (cl_ (cl_ (cr_ (cr_ h)))))))))))) (va_eqt (cr_ (cr_ (cr_ (cl_ (cl_ (cr_ (cl_ (cr_ (cl_ (cl_ (cr_ (cr_ h))))))))))))) (fun j hj => ?_) hA
  match j, hj with
  | 0, _ => exact (va_eqt (cl_ (cl_ (cr_ (cl_ (cr_ (cl_ (cr_ (cl_ (cl_ (cr_ (cr_ h)))))))))))).trans (congrArg (fun z => some (Value.int z)) (show (80 : Int32) = Int32.ofInt (sAt (-90) ((0 : Nat) : Int)) by decide))
  | 1, _ => exact (va_eqt (cl_ (cr_ (cl_ (cr_ (cl_ (cr_ (cl_ (cr_ (cl_ (cl_ (cr_ (cr_ h))))))))))))).trans (congrArg (fun z => some (Value.int z)) (show (65 : Int32) = Int32.ofInt (sAt (-90) ((1 : Nat) : Int)) by decide))
  | 2, _ => exact (va_eqt (cr_ (cr_ (cl_ (cr_ (cl_ (cr_ (cl_ (cr_ (cl_ (cl_ (cr_ (cr_ h))))))))))))).trans (congrArg (fun z => some (Value.int z)) (show (84 : Int32) = Int32.ofInt (sAt (-90) ((2 : Nat) : Int)) by decide))
  | 3, _ => exact (va_eqt (cl_ (cr_ (cr_ (cl_ (cr_ (cl_ (cr_ (cl_ (cl_ (cr_ (cr_ h)))))))))))).trans (congrArg (fun z => some (Value.int z)) (show (72 : Int32) = Int32.ofInt (sAt (-90) ((3 : Nat) : Int)) by decide))
  | 4, _ => exact (va_eqt (cl_ (cr_ (cr_ (cr_ (cl_ (cr_ (cl_ (cr_ (cl_ (cl_ (cr_ (cr_ h))))))))))))).trans (congrArg (fun z => some (Value.int z)) (show (83 : Int32) = Int32.ofInt (sAt (-90) ((4 : Nat) : Int)) by decide))
  | j + 5, hj => exact absurd hj (by omega)
theorem ws_41 {args : Array Value} {s : State} {A : Nat → Prop} (h : (Jvm.Cond.and given_1 narrow_1).before args s = true) (hA : ∀ a : Nat, a < s.heap.size → ¬ A a) : strAt args s A (-92) := by
  refine str_of (N := 3) (tm := (Jvm.Term.string "ElectionHouse$Reader" 118)) rfl rfl (cr_ (cr_ (cr_ (cr_ (cl_ (cr_ (cl_ (cr_ (cl_ (cl_ (cr_ (cr_ h)))))))))))) (cl_ (cl_ (cl_ (cr_ (cr_ (cl_ (cr_ (cl_ (cl_ (cr_ (cr_ h))))))))))) (cl_ (cr_ (cl_ (cl_ (cr_ (cr_ (cl_ (cr_ (cl_ (cl_ (cr_ (cr_ h)))))))))))) (va_eqt (cr_ (cr_ (cl_ (cl_ (cr_ (cr_ (cl_ (cr_ (cl_ (cl_ (cr_ (cr_ h))))))))))))) (fun j hj => ?_) hA
  match j, hj with
  | 0, _ => exact (va_eqt (cl_ (cr_ (cl_ (cr_ (cr_ (cl_ (cr_ (cl_ (cl_ (cr_ (cr_ h)))))))))))).trans (congrArg (fun z => some (Value.int z)) (show (84 : Int32) = Int32.ofInt (sAt (-92) ((0 : Nat) : Int)) by decide))
  | 1, _ => exact (va_eqt (cl_ (cr_ (cr_ (cl_ (cr_ (cr_ (cl_ (cr_ (cl_ (cl_ (cr_ (cr_ h))))))))))))).trans (congrArg (fun z => some (Value.int z)) (show (79 : Int32) = Int32.ofInt (sAt (-92) ((1 : Nat) : Int)) by decide))
  | 2, _ => exact (va_eqt (cr_ (cr_ (cr_ (cl_ (cr_ (cr_ (cl_ (cr_ (cl_ (cl_ (cr_ (cr_ h))))))))))))).trans (congrArg (fun z => some (Value.int z)) (show (80 : Int32) = Int32.ofInt (sAt (-92) ((2 : Nat) : Int)) by decide))
  | j + 3, hj => exact absurd hj (by omega)
theorem ws_42 {args : Array Value} {s : State} {A : Nat → Prop} (h : (Jvm.Cond.and given_1 narrow_1).before args s = true) (hA : ∀ a : Nat, a < s.heap.size → ¬ A a) : strAt args s A (-94) := by
  refine str_of (N := 4) (tm := (Jvm.Term.string "ElectionHouse$Reader" 120)) rfl rfl (cl_ (cl_ (cr_ (cr_ (cr_ (cl_ (cr_ (cl_ (cl_ (cr_ (cr_ h))))))))))) (cl_ (cr_ (cl_ (cr_ (cr_ (cr_ (cl_ (cr_ (cl_ (cl_ (cr_ (cr_ h)))))))))))) (cr_ (cr_ (cl_ (cr_ (cr_ (cr_ (cl_ (cr_ (cl_ (cl_ (cr_ (cr_ h)))))))))))) (va_eqt (cl_ (cl_ (cr_ (cr_ (cr_ (cr_ (cl_ (cr_ (cl_ (cl_ (cr_ (cr_ h))))))))))))) (fun j hj => ?_) hA
  match j, hj with
  | 0, _ => exact (va_eqt (cr_ (cl_ (cr_ (cr_ (cr_ (cr_ (cl_ (cr_ (cl_ (cl_ (cr_ (cr_ h))))))))))))).trans (congrArg (fun z => some (Value.int z)) (show (77 : Int32) = Int32.ofInt (sAt (-94) ((0 : Nat) : Int)) by decide))
  | 1, _ => exact (va_eqt (cl_ (cr_ (cr_ (cr_ (cr_ (cr_ (cl_ (cr_ (cl_ (cl_ (cr_ (cr_ h))))))))))))).trans (congrArg (fun z => some (Value.int z)) (show (69 : Int32) = Int32.ofInt (sAt (-94) ((1 : Nat) : Int)) by decide))
  | 2, _ => exact (va_eqt (cr_ (cr_ (cr_ (cr_ (cr_ (cr_ (cl_ (cr_ (cl_ (cl_ (cr_ (cr_ h))))))))))))).trans (congrArg (fun z => some (Value.int z)) (show (69 : Int32) = Int32.ofInt (sAt (-94) ((2 : Nat) : Int)) by decide))
  | 3, _ => exact (va_eqt (cl_ (cl_ (cl_ (cl_ (cl_ (cr_ (cr_ (cl_ (cl_ (cr_ (cr_ h)))))))))))).trans (congrArg (fun z => some (Value.int z)) (show (75 : Int32) = Int32.ofInt (sAt (-94) ((3 : Nat) : Int)) by decide))
  | j + 4, hj => exact absurd hj (by omega)
theorem ws_43 {args : Array Value} {s : State} {A : Nat → Prop} (h : (Jvm.Cond.and given_1 narrow_1).before args s = true) (hA : ∀ a : Nat, a < s.heap.size → ¬ A a) : strAt args s A (-96) := by
  refine str_of (N := 8) (tm := (Jvm.Term.string "ElectionHouse$Reader" 122)) rfl rfl (cl_ (cr_ (cl_ (cl_ (cl_ (cl_ (cr_ (cr_ (cl_ (cl_ (cr_ (cr_ h)))))))))))) (cr_ (cr_ (cl_ (cl_ (cl_ (cl_ (cr_ (cr_ (cl_ (cl_ (cr_ (cr_ h)))))))))))) (cl_ (cr_ (cl_ (cl_ (cl_ (cr_ (cr_ (cl_ (cl_ (cr_ (cr_ h))))))))))) (va_eqt (cl_ (cr_ (cr_ (cl_ (cl_ (cl_ (cr_ (cr_ (cl_ (cl_ (cr_ (cr_ h))))))))))))) (fun j hj => ?_) hA
  match j, hj with
  | 0, _ => exact (va_eqt (cr_ (cr_ (cr_ (cl_ (cl_ (cl_ (cr_ (cr_ (cl_ (cl_ (cr_ (cr_ h))))))))))))).trans (congrArg (fun z => some (Value.int z)) (show (84 : Int32) = Int32.ofInt (sAt (-96) ((0 : Nat) : Int)) by decide))
  | 1, _ => exact (va_eqt (cl_ (cl_ (cr_ (cl_ (cl_ (cr_ (cr_ (cl_ (cl_ (cr_ (cr_ h)))))))))))).trans (congrArg (fun z => some (Value.int z)) (show (82 : Int32) = Int32.ofInt (sAt (-96) ((1 : Nat) : Int)) by decide))
  | 2, _ => exact (va_eqt (cl_ (cr_ (cl_ (cr_ (cl_ (cl_ (cr_ (cr_ (cl_ (cl_ (cr_ (cr_ h))))))))))))).trans (congrArg (fun z => some (Value.int z)) (show (65 : Int32) = Int32.ofInt (sAt (-96) ((2 : Nat) : Int)) by decide))
  | 3, _ => exact (va_eqt (cr_ (cr_ (cl_ (cr_ (cl_ (cl_ (cr_ (cr_ (cl_ (cl_ (cr_ (cr_ h))))))))))))).trans (congrArg (fun z => some (Value.int z)) (show (78 : Int32) = Int32.ofInt (sAt (-96) ((3 : Nat) : Int)) by decide))
  | 4, _ => exact (va_eqt (cl_ (cr_ (cr_ (cl_ (cl_ (cr_ (cr_ (cl_ (cl_ (cr_ (cr_ h)))))))))))).trans (congrArg (fun z => some (Value.int z)) (show (83 : Int32) = Int32.ofInt (sAt (-96) ((4 : Nat) : Int)) by decide))
  | 5, _ => exact (va_eqt (cl_ (cr_ (cr_ (cr_ (cl_ (cl_ (cr_ (cr_ (cl_ (cl_ (cr_ (cr_ h))))))))))))).trans (congrArg (fun z => some (Value.int z)) (show (70 : Int32) = Int32.ofInt (sAt (-96) ((5 : Nat) : Int)) by decide))
  | 6, _ => exact (va_eqt (cr_ (cr_ (cr_ (cr_ (cl_ (cl_ (cr_ (cr_ (cl_ (cl_ (cr_ (cr_ h))))))))))))).trans (congrArg (fun z => some (Value.int z)) (show (69 : Int32) = Int32.ofInt (sAt (-96) ((6 : Nat) : Int)) by decide))
  | 7, _ => exact (va_eqt (cl_ (cl_ (cl_ (cr_ (cl_ (cr_ (cr_ (cl_ (cl_ (cr_ (cr_ h)))))))))))).trans (congrArg (fun z => some (Value.int z)) (show (82 : Int32) = Int32.ofInt (sAt (-96) ((7 : Nat) : Int)) by decide))
  | j + 8, hj => exact absurd hj (by omega)
theorem ws_44 {args : Array Value} {s : State} {A : Nat → Prop} (h : (Jvm.Cond.and given_1 narrow_1).before args s = true) (hA : ∀ a : Nat, a < s.heap.size → ¬ A a) : strAt args s A (-98) := by
  refine str_of (N := 5) (tm := (Jvm.Term.string "ElectionHouse$Reader" 124)) rfl rfl (cl_ (cr_ (cl_ (cl_ (cr_ (cl_ (cr_ (cr_ (cl_ (cl_ (cr_ (cr_ h)))))))))))) (cr_ (cr_ (cl_ (cl_ (cr_ (cl_ (cr_ (cr_ (cl_ (cl_ (cr_ (cr_ h)))))))))))) (cl_ (cr_ (cl_ (cr_ (cl_ (cr_ (cr_ (cl_ (cl_ (cr_ (cr_ h))))))))))) (va_eqt (cl_ (cr_ (cr_ (cl_ (cr_ (cl_ (cr_ (cr_ (cl_ (cl_ (cr_ (cr_ h))))))))))))) (fun j hj => ?_) hA
  match j, hj with
  | 0, _ => exact (va_eqt (cr_ (cr_ (cr_ (cl_ (cr_ (cl_ (cr_ (cr_ (cl_ (cl_ (cr_ (cr_ h))))))))))))).trans (congrArg (fun z => some (Value.int z)) (show (87 : Int32) = Int32.ofInt (sAt (-98) ((0 : Nat) : Int)) by decide))
  | 1, _ => exact (va_eqt (cl_ (cl_ (cr_ (cr_ (cl_ (cr_ (cr_ (cl_ (cl_ (cr_ (cr_ h)))))))))))).trans (congrArg (fun z => some (Value.int z)) (show (72 : Int32) = Int32.ofInt (sAt (-98) ((1 : Nat) : Int)) by decide))
  | 2, _ => exact (va_eqt (cl_ (cr_ (cl_ (cr_ (cr_ (cl_ (cr_ (cr_ (cl_ (cl_ (cr_ (cr_ h))))))))))))).trans (congrArg (fun z => some (Value.int z)) (show (79 : Int32) = Int32.ofInt (sAt (-98) ((2 : Nat) : Int)) by decide))
  | 3, _ => exact (va_eqt (cr_ (cr_ (cl_ (cr_ (cr_ (cl_ (cr_ (cr_ (cl_ (cl_ (cr_ (cr_ h))))))))))))).trans (congrArg (fun z => some (Value.int z)) (show (76 : Int32) = Int32.ofInt (sAt (-98) ((3 : Nat) : Int)) by decide))
  | 4, _ => exact (va_eqt (cl_ (cl_ (cr_ (cr_ (cr_ (cl_ (cr_ (cr_ (cl_ (cl_ (cr_ (cr_ h))))))))))))).trans (congrArg (fun z => some (Value.int z)) (show (69 : Int32) = Int32.ofInt (sAt (-98) ((4 : Nat) : Int)) by decide))
  | j + 5, hj => exact absurd hj (by omega)
theorem ws_45 {args : Array Value} {s : State} {A : Nat → Prop} (h : (Jvm.Cond.and given_1 narrow_1).before args s = true) (hA : ∀ a : Nat, a < s.heap.size → ¬ A a) : strAt args s A (-100) := by
  refine str_of (N := 5) (tm := (Jvm.Term.string "ElectionHouse$Reader" 126)) rfl rfl (cr_ (cl_ (cr_ (cr_ (cr_ (cl_ (cr_ (cr_ (cl_ (cl_ (cr_ (cr_ h)))))))))))) (cl_ (cr_ (cr_ (cr_ (cr_ (cl_ (cr_ (cr_ (cl_ (cl_ (cr_ (cr_ h)))))))))))) (cr_ (cr_ (cr_ (cr_ (cr_ (cl_ (cr_ (cr_ (cl_ (cl_ (cr_ (cr_ h)))))))))))) (va_eqt (cl_ (cl_ (cl_ (cl_ (cr_ (cr_ (cr_ (cl_ (cl_ (cr_ (cr_ h)))))))))))) (fun j hj => ?_) hA
  match j, hj with
  | 0, _ => exact (va_eqt (cl_ (cr_ (cl_ (cl_ (cl_ (cr_ (cr_ (cr_ (cl_ (cl_ (cr_ (cr_ h))))))))))))).trans (congrArg (fun z => some (Value.int z)) (show (76 : Int32) = Int32.ofInt (sAt (-100) ((0 : Nat) : Int)) by decide))
  | 1, _ => exact (va_eqt (cr_ (cr_ (cl_ (cl_ (cl_ (cr_ (cr_ (cr_ (cl_ (cl_ (cr_ (cr_ h))))))))))))).trans (congrArg (fun z => some (Value.int z)) (show (73 : Int32) = Int32.ofInt (sAt (-100) ((1 : Nat) : Int)) by decide))
  | 2, _ => exact (va_eqt (cl_ (cr_ (cl_ (cl_ (cr_ (cr_ (cr_ (cl_ (cl_ (cr_ (cr_ h)))))))))))).trans (congrArg (fun z => some (Value.int z)) (show (83 : Int32) = Int32.ofInt (sAt (-100) ((2 : Nat) : Int)) by decide))
  | 3, _ => exact (va_eqt (cl_ (cr_ (cr_ (cl_ (cl_ (cr_ (cr_ (cr_ (cl_ (cl_ (cr_ (cr_ h))))))))))))).trans (congrArg (fun z => some (Value.int z)) (show (84 : Int32) = Int32.ofInt (sAt (-100) ((3 : Nat) : Int)) by decide))
  | 4, _ => exact (va_eqt (cr_ (cr_ (cr_ (cl_ (cl_ (cr_ (cr_ (cr_ (cl_ (cl_ (cr_ (cr_ h))))))))))))).trans (congrArg (fun z => some (Value.int z)) (show (83 : Int32) = Int32.ofInt (sAt (-100) ((4 : Nat) : Int)) by decide))
  | j + 5, hj => exact absurd hj (by omega)
theorem ws_46 {args : Array Value} {s : State} {A : Nat → Prop} (h : (Jvm.Cond.and given_1 narrow_1).before args s = true) (hA : ∀ a : Nat, a < s.heap.size → ¬ A a) : strAt args s A (-102) := by
  refine str_of (N := 4) (tm := (Jvm.Term.string "ElectionHouse$Reader" 128)) rfl rfl (cl_ (cl_ (cr_ (cl_ (cr_ (cr_ (cr_ (cl_ (cl_ (cr_ (cr_ h))))))))))) (cl_ (cr_ (cl_ (cr_ (cl_ (cr_ (cr_ (cr_ (cl_ (cl_ (cr_ (cr_ h)))))))))))) (cr_ (cr_ (cl_ (cr_ (cl_ (cr_ (cr_ (cr_ (cl_ (cl_ (cr_ (cr_ h)))))))))))) (va_eqt (cl_ (cr_ (cr_ (cl_ (cr_ (cr_ (cr_ (cl_ (cl_ (cr_ (cr_ h)))))))))))) (fun j hj => ?_) hA
  match j, hj with
  | 0, _ => exact (va_eqt (cl_ (cr_ (cr_ (cr_ (cl_ (cr_ (cr_ (cr_ (cl_ (cl_ (cr_ (cr_ h))))))))))))).trans (congrArg (fun z => some (Value.int z)) (show (79 : Int32) = Int32.ofInt (sAt (-102) ((0 : Nat) : Int)) by decide))
  | 1, _ => exact (va_eqt (cr_ (cr_ (cr_ (cr_ (cl_ (cr_ (cr_ (cr_ (cl_ (cl_ (cr_ (cr_ h))))))))))))).trans (congrArg (fun z => some (Value.int z)) (show (78 : Int32) = Int32.ofInt (sAt (-102) ((1 : Nat) : Int)) by decide))
  | 2, _ => exact (va_eqt (cl_ (cl_ (cl_ (cr_ (cr_ (cr_ (cr_ (cl_ (cl_ (cr_ (cr_ h)))))))))))).trans (congrArg (fun z => some (Value.int z)) (show (69 : Int32) = Int32.ofInt (sAt (-102) ((2 : Nat) : Int)) by decide))
  | 3, _ => exact (va_eqt (cl_ (cr_ (cl_ (cl_ (cr_ (cr_ (cr_ (cr_ (cl_ (cl_ (cr_ (cr_ h))))))))))))).trans (congrArg (fun z => some (Value.int z)) (show (83 : Int32) = Int32.ofInt (sAt (-102) ((3 : Nat) : Int)) by decide))
  | j + 4, hj => exact absurd hj (by omega)
theorem ws_47 {args : Array Value} {s : State} {A : Nat → Prop} (h : (Jvm.Cond.and given_1 narrow_1).before args s = true) (hA : ∀ a : Nat, a < s.heap.size → ¬ A a) : strAt args s A (-104) := by
  refine str_of (N := 4) (tm := (Jvm.Term.string "ElectionHouse$Reader" 130)) rfl rfl (cr_ (cr_ (cl_ (cl_ (cr_ (cr_ (cr_ (cr_ (cl_ (cl_ (cr_ (cr_ h)))))))))))) (cl_ (cr_ (cl_ (cr_ (cr_ (cr_ (cr_ (cl_ (cl_ (cr_ (cr_ h))))))))))) (cl_ (cr_ (cr_ (cl_ (cr_ (cr_ (cr_ (cr_ (cl_ (cl_ (cr_ (cr_ h)))))))))))) (va_eqt (cr_ (cr_ (cr_ (cl_ (cr_ (cr_ (cr_ (cr_ (cl_ (cl_ (cr_ (cr_ h))))))))))))) (fun j hj => ?_) hA
  match j, hj with
  | 0, _ => exact (va_eqt (cl_ (cl_ (cr_ (cr_ (cr_ (cr_ (cr_ (cl_ (cl_ (cr_ (cr_ h)))))))))))).trans (congrArg (fun z => some (Value.int z)) (show (79 : Int32) = Int32.ofInt (sAt (-104) ((0 : Nat) : Int)) by decide))
  | 1, _ => exact (va_eqt (cl_ (cr_ (cl_ (cr_ (cr_ (cr_ (cr_ (cr_ (cl_ (cl_ (cr_ (cr_ h))))))))))))).trans (congrArg (fun z => some (Value.int z)) (show (68 : Int32) = Int32.ofInt (sAt (-104) ((1 : Nat) : Int)) by decide))
  | 2, _ => exact (va_eqt (cr_ (cr_ (cl_ (cr_ (cr_ (cr_ (cr_ (cr_ (cl_ (cl_ (cr_ (cr_ h))))))))))))).trans (congrArg (fun z => some (Value.int z)) (show (68 : Int32) = Int32.ofInt (sAt (-104) ((2 : Nat) : Int)) by decide))
  | 3, _ => exact (va_eqt (cl_ (cl_ (cr_ (cr_ (cr_ (cr_ (cr_ (cr_ (cl_ (cl_ (cr_ (cr_ h))))))))))))).trans (congrArg (fun z => some (Value.int z)) (show (83 : Int32) = Int32.ofInt (sAt (-104) ((3 : Nat) : Int)) by decide))
  | j + 4, hj => exact absurd hj (by omega)
theorem ws_48 {args : Array Value} {s : State} {A : Nat → Prop} (h : (Jvm.Cond.and given_1 narrow_1).before args s = true) (hA : ∀ a : Nat, a < s.heap.size → ¬ A a) : strAt args s A (-106) := by
  refine str_of (N := 5) (tm := (Jvm.Term.string "ElectionHouse$Reader" 132)) rfl rfl (cr_ (cl_ (cr_ (cr_ (cr_ (cr_ (cr_ (cr_ (cl_ (cl_ (cr_ (cr_ h)))))))))))) (cl_ (cr_ (cr_ (cr_ (cr_ (cr_ (cr_ (cr_ (cl_ (cl_ (cr_ (cr_ h)))))))))))) (cr_ (cr_ (cr_ (cr_ (cr_ (cr_ (cr_ (cr_ (cl_ (cl_ (cr_ (cr_ h)))))))))))) (va_eqt (cl_ (cl_ (cl_ (cl_ (cl_ (cl_ (cl_ (cr_ (cl_ (cr_ (cr_ h)))))))))))) (fun j hj => ?_) hA
  match j, hj with
  | 0, _ => exact (va_eqt (cl_ (cr_ (cl_ (cl_ (cl_ (cl_ (cl_ (cl_ (cr_ (cl_ (cr_ (cr_ h))))))))))))).trans (congrArg (fun z => some (Value.int z)) (show (83 : Int32) = Int32.ofInt (sAt (-106) ((0 : Nat) : Int)) by decide))
  | 1, _ => exact (va_eqt (cr_ (cr_ (cl_ (cl_ (cl_ (cl_ (cl_ (cl_ (cr_ (cl_ (cr_ (cr_ h))))))))))))).trans (congrArg (fun z => some (Value.int z)) (show (84 : Int32) = Int32.ofInt (sAt (-106) ((1 : Nat) : Int)) by decide))
  | 2, _ => exact (va_eqt (cl_ (cr_ (cl_ (cl_ (cl_ (cl_ (cl_ (cr_ (cl_ (cr_ (cr_ h)))))))))))).trans (congrArg (fun z => some (Value.int z)) (show (69 : Int32) = Int32.ofInt (sAt (-106) ((2 : Nat) : Int)) by decide))
  | 3, _ => exact (va_eqt (cl_ (cr_ (cr_ (cl_ (cl_ (cl_ (cl_ (cl_ (cr_ (cl_ (cr_ (cr_ h))))))))))))).trans (congrArg (fun z => some (Value.int z)) (show (69 : Int32) = Int32.ofInt (sAt (-106) ((3 : Nat) : Int)) by decide))
  | 4, _ => exact (va_eqt (cr_ (cr_ (cr_ (cl_ (cl_ (cl_ (cl_ (cl_ (cr_ (cl_ (cr_ (cr_ h))))))))))))).trans (congrArg (fun z => some (Value.int z)) (show (80 : Int32) = Int32.ofInt (sAt (-106) ((4 : Nat) : Int)) by decide))
  | j + 5, hj => exact absurd hj (by omega)
theorem ws_49 {args : Array Value} {s : State} {A : Nat → Prop} (h : (Jvm.Cond.and given_1 narrow_1).before args s = true) (hA : ∀ a : Nat, a < s.heap.size → ¬ A a) : strAt args s A (-108) := by
  refine str_of (N := 6) (tm := (Jvm.Term.string "ElectionHouse$Reader" 134)) rfl rfl (cl_ (cl_ (cr_ (cl_ (cl_ (cl_ (cl_ (cr_ (cl_ (cr_ (cr_ h))))))))))) (cl_ (cr_ (cl_ (cr_ (cl_ (cl_ (cl_ (cl_ (cr_ (cl_ (cr_ (cr_ h)))))))))))) (cr_ (cr_ (cl_ (cr_ (cl_ (cl_ (cl_ (cl_ (cr_ (cl_ (cr_ (cr_ h)))))))))))) (va_eqt (cl_ (cr_ (cr_ (cl_ (cl_ (cl_ (cl_ (cr_ (cl_ (cr_ (cr_ h)))))))))))) (fun j hj => ?_) hA
  match j, hj with
  | 0, _ => exact (va_eqt (cl_ (cr_ (cr_ (cr_ (cl_ (cl_ (cl_ (cl_ (cr_ (cl_ (cr_ (cr_ h))))))))))))).trans (congrArg (fun z => some (Value.int z)) (show (72 : Int32) = Int32.ofInt (sAt (-108) ((0 : Nat) : Int)) by decide))
  | 1, _ => exact (va_eqt (cr_ (cr_ (cr_ (cr_ (cl_ (cl_ (cl_ (cl_ (cr_ (cl_ (cr_ (cr_ h))))))))))))).trans (congrArg (fun z => some (Value.int z)) (show (65 : Int32) = Int32.ofInt (sAt (-108) ((1 : Nat) : Int)) by decide))
  | 2, _ => exact (va_eqt (cl_ (cl_ (cl_ (cr_ (cl_ (cl_ (cl_ (cr_ (cl_ (cr_ (cr_ h)))))))))))).trans (congrArg (fun z => some (Value.int z)) (show (76 : Int32) = Int32.ofInt (sAt (-108) ((2 : Nat) : Int)) by decide))
  | 3, _ => exact (va_eqt (cl_ (cr_ (cl_ (cl_ (cr_ (cl_ (cl_ (cl_ (cr_ (cl_ (cr_ (cr_ h))))))))))))).trans (congrArg (fun z => some (Value.int z)) (show (86 : Int32) = Int32.ofInt (sAt (-108) ((3 : Nat) : Int)) by decide))
  | 4, _ => exact (va_eqt (cr_ (cr_ (cl_ (cl_ (cr_ (cl_ (cl_ (cl_ (cr_ (cl_ (cr_ (cr_ h))))))))))))).trans (congrArg (fun z => some (Value.int z)) (show (69 : Int32) = Int32.ofInt (sAt (-108) ((4 : Nat) : Int)) by decide))
  | 5, _ => exact (va_eqt (cl_ (cr_ (cl_ (cr_ (cl_ (cl_ (cl_ (cr_ (cl_ (cr_ (cr_ h)))))))))))).trans (congrArg (fun z => some (Value.int z)) (show (83 : Int32) = Int32.ofInt (sAt (-108) ((5 : Nat) : Int)) by decide))
  | j + 6, hj => exact absurd hj (by omega)
theorem ws_50 {args : Array Value} {s : State} {A : Nat → Prop} (h : (Jvm.Cond.and given_1 narrow_1).before args s = true) (hA : ∀ a : Nat, a < s.heap.size → ¬ A a) : strAt args s A (-110) := by
  refine str_of (N := 8) (tm := (Jvm.Term.string "ElectionHouse$Reader" 136)) rfl rfl (cl_ (cr_ (cr_ (cl_ (cr_ (cl_ (cl_ (cl_ (cr_ (cl_ (cr_ (cr_ h)))))))))))) (cr_ (cr_ (cr_ (cl_ (cr_ (cl_ (cl_ (cl_ (cr_ (cl_ (cr_ (cr_ h)))))))))))) (cl_ (cl_ (cr_ (cr_ (cl_ (cl_ (cl_ (cr_ (cl_ (cr_ (cr_ h))))))))))) (va_eqt (cl_ (cr_ (cl_ (cr_ (cr_ (cl_ (cl_ (cl_ (cr_ (cl_ (cr_ (cr_ h))))))))))))) (fun j hj => ?_) hA
  match j, hj with
  | 0, _ => exact (va_eqt (cr_ (cr_ (cl_ (cr_ (cr_ (cl_ (cl_ (cl_ (cr_ (cl_ (cr_ (cr_ h))))))))))))).trans (congrArg (fun z => some (Value.int z)) (show (77 : Int32) = Int32.ofInt (sAt (-110) ((0 : Nat) : Int)) by decide))
  | 1, _ => exact (va_eqt (cl_ (cl_ (cr_ (cr_ (cr_ (cl_ (cl_ (cl_ (cr_ (cl_ (cr_ (cr_ h))))))))))))).trans (congrArg (fun z => some (Value.int z)) (show (79 : Int32) = Int32.ofInt (sAt (-110) ((1 : Nat) : Int)) by decide))
  | 2, _ => exact (va_eqt (cr_ (cl_ (cr_ (cr_ (cr_ (cl_ (cl_ (cl_ (cr_ (cl_ (cr_ (cr_ h))))))))))))).trans (congrArg (fun z => some (Value.int z)) (show (68 : Int32) = Int32.ofInt (sAt (-110) ((2 : Nat) : Int)) by decide))
  | 3, _ => exact (va_eqt (cl_ (cr_ (cr_ (cr_ (cr_ (cl_ (cl_ (cl_ (cr_ (cl_ (cr_ (cr_ h))))))))))))).trans (congrArg (fun z => some (Value.int z)) (show (73 : Int32) = Int32.ofInt (sAt (-110) ((3 : Nat) : Int)) by decide))
  | 4, _ => exact (va_eqt (cr_ (cr_ (cr_ (cr_ (cr_ (cl_ (cl_ (cl_ (cr_ (cl_ (cr_ (cr_ h))))))))))))).trans (congrArg (fun z => some (Value.int z)) (show (70 : Int32) = Int32.ofInt (sAt (-110) ((4 : Nat) : Int)) by decide))
  | 5, _ => exact (va_eqt (cl_ (cl_ (cl_ (cl_ (cr_ (cl_ (cl_ (cr_ (cl_ (cr_ (cr_ h)))))))))))).trans (congrArg (fun z => some (Value.int z)) (show (73 : Int32) = Int32.ofInt (sAt (-110) ((5 : Nat) : Int)) by decide))
  | 6, _ => exact (va_eqt (cl_ (cr_ (cl_ (cl_ (cl_ (cr_ (cl_ (cl_ (cr_ (cl_ (cr_ (cr_ h))))))))))))).trans (congrArg (fun z => some (Value.int z)) (show (69 : Int32) = Int32.ofInt (sAt (-110) ((6 : Nat) : Int)) by decide))
  | 7, _ => exact (va_eqt (cr_ (cr_ (cl_ (cl_ (cl_ (cr_ (cl_ (cl_ (cr_ (cl_ (cr_ (cr_ h))))))))))))).trans (congrArg (fun z => some (Value.int z)) (show (68 : Int32) = Int32.ofInt (sAt (-110) ((7 : Nat) : Int)) by decide))
  | j + 8, hj => exact absurd hj (by omega)
theorem ws_51 {args : Array Value} {s : State} {A : Nat → Prop} (h : (Jvm.Cond.and given_1 narrow_1).before args s = true) (hA : ∀ a : Nat, a < s.heap.size → ¬ A a) : strAt args s A (-112) := by
  refine str_of (N := 4) (tm := (Jvm.Term.string "ElectionHouse$Reader" 138)) rfl rfl (cl_ (cr_ (cl_ (cl_ (cr_ (cl_ (cl_ (cr_ (cl_ (cr_ (cr_ h))))))))))) (cl_ (cr_ (cr_ (cl_ (cl_ (cr_ (cl_ (cl_ (cr_ (cl_ (cr_ (cr_ h)))))))))))) (cr_ (cr_ (cr_ (cl_ (cl_ (cr_ (cl_ (cl_ (cr_ (cl_ (cr_ (cr_ h)))))))))))) (va_eqt (cl_ (cl_ (cr_ (cl_ (cr_ (cl_ (cl_ (cr_ (cl_ (cr_ (cr_ h)))))))))))) (fun j hj => ?_) hA
  match j, hj with
  | 0, _ => exact (va_eqt (cl_ (cr_ (cl_ (cr_ (cl_ (cr_ (cl_ (cl_ (cr_ (cl_ (cr_ (cr_ h))))))))))))).trans (congrArg (fun z => some (Value.int z)) (show (72 : Int32) = Int32.ofInt (sAt (-112) ((0 : Nat) : Int)) by decide))
  | 1, _ => exact (va_eqt (cr_ (cr_ (cl_ (cr_ (cl_ (cr_ (cl_ (cl_ (cr_ (cl_ (cr_ (cr_ h))))))))))))).trans (congrArg (fun z => some (Value.int z)) (show (65 : Int32) = Int32.ofInt (sAt (-112) ((1 : Nat) : Int)) by decide))
  | 2, _ => exact (va_eqt (cl_ (cr_ (cr_ (cl_ (cr_ (cl_ (cl_ (cr_ (cl_ (cr_ (cr_ h)))))))))))).trans (congrArg (fun z => some (Value.int z)) (show (82 : Int32) = Int32.ofInt (sAt (-112) ((2 : Nat) : Int)) by decide))
  | 3, _ => exact (va_eqt (cl_ (cr_ (cr_ (cr_ (cl_ (cr_ (cl_ (cl_ (cr_ (cl_ (cr_ (cr_ h))))))))))))).trans (congrArg (fun z => some (Value.int z)) (show (69 : Int32) = Int32.ofInt (sAt (-112) ((3 : Nat) : Int)) by decide))
  | j + 4, hj => exact absurd hj (by omega)
theorem ws_52 {args : Array Value} {s : State} {A : Nat → Prop} (h : (Jvm.Cond.and given_1 narrow_1).before args s = true) (hA : ∀ a : Nat, a < s.heap.size → ¬ A a) : strAt args s A (-114) := by
  refine str_of (N := 5) (tm := (Jvm.Term.string "ElectionHouse$Reader" 140)) rfl rfl (cr_ (cr_ (cr_ (cr_ (cl_ (cr_ (cl_ (cl_ (cr_ (cl_ (cr_ (cr_ h)))))))))))) (cl_ (cl_ (cl_ (cr_ (cr_ (cl_ (cl_ (cr_ (cl_ (cr_ (cr_ h))))))))))) (cl_ (cr_ (cl_ (cl_ (cr_ (cr_ (cl_ (cl_ (cr_ (cl_ (cr_ (cr_ h)))))))))))) (va_eqt (cr_ (cr_ (cl_ (cl_ (cr_ (cr_ (cl_ (cl_ (cr_ (cl_ (cr_ (cr_ h))))))))))))) (fun j hj => ?_) hA
  match j, hj with
  | 0, _ => exact (va_eqt (cl_ (cr_ (cl_ (cr_ (cr_ (cl_ (cl_ (cr_ (cl_ (cr_ (cr_ h)))))))))))).trans (congrArg (fun z => some (Value.int z)) (show (68 : Int32) = Int32.ofInt (sAt (-114) ((0 : Nat) : Int)) by decide))
  | 1, _ => exact (va_eqt (cl_ (cr_ (cr_ (cl_ (cr_ (cr_ (cl_ (cl_ (cr_ (cl_ (cr_ (cr_ h))))))))))))).trans (congrArg (fun z => some (Value.int z)) (show (82 : Int32) = Int32.ofInt (sAt (-114) ((1 : Nat) : Int)) by decide))
  | 2, _ => exact (va_eqt (cr_ (cr_ (cr_ (cl_ (cr_ (cr_ (cl_ (cl_ (cr_ (cl_ (cr_ (cr_ h))))))))))))).trans (congrArg (fun z => some (Value.int z)) (show (79 : Int32) = Int32.ofInt (sAt (-114) ((2 : Nat) : Int)) by decide))
  | 3, _ => exact (va_eqt (cl_ (cl_ (cr_ (cr_ (cr_ (cl_ (cl_ (cr_ (cl_ (cr_ (cr_ h)))))))))))).trans (congrArg (fun z => some (Value.int z)) (show (79 : Int32) = Int32.ofInt (sAt (-114) ((3 : Nat) : Int)) by decide))
  | 4, _ => exact (va_eqt (cl_ (cr_ (cl_ (cr_ (cr_ (cr_ (cl_ (cl_ (cr_ (cl_ (cr_ (cr_ h))))))))))))).trans (congrArg (fun z => some (Value.int z)) (show (80 : Int32) = Int32.ofInt (sAt (-114) ((4 : Nat) : Int)) by decide))
  | j + 5, hj => exact absurd hj (by omega)
theorem ws_53 {args : Array Value} {s : State} {A : Nat → Prop} (h : (Jvm.Cond.and given_1 narrow_1).before args s = true) (hA : ∀ a : Nat, a < s.heap.size → ¬ A a) : strAt args s A (-116) := by
  refine str_of (N := 8) (tm := (Jvm.Term.string "ElectionHouse$Reader" 142)) rfl rfl (cr_ (cr_ (cl_ (cr_ (cr_ (cr_ (cl_ (cl_ (cr_ (cl_ (cr_ (cr_ h)))))))))))) (cl_ (cl_ (cr_ (cr_ (cr_ (cr_ (cl_ (cl_ (cr_ (cl_ (cr_ (cr_ h)))))))))))) (cr_ (cl_ (cr_ (cr_ (cr_ (cr_ (cl_ (cl_ (cr_ (cl_ (cr_ (cr_ h)))))))))))) (va_eqt (cl_ (cr_ (cr_ (cr_ (cr_ (cr_ (cl_ (cl_ (cr_ (cl_ (cr_ (cr_ h))))))))))))) (fun j hj => ?_) hA
  match j, hj with
  | 0, _ => exact (va_eqt (cr_ (cr_ (cr_ (cr_ (cr_ (cr_ (cl_ (cl_ (cr_ (cl_ (cr_ (cr_ h))))))))))))).trans (congrArg (fun z => some (Value.int z)) (show (66 : Int32) = Int32.ofInt (sAt (-116) ((0 : Nat) : Int)) by decide))
  | 1, _ => exact (va_eqt (cl_ (cl_ (cl_ (cl_ (cl_ (cr_ (cl_ (cr_ (cl_ (cr_ (cr_ h)))))))))))).trans (congrArg (fun z => some (Value.int z)) (show (73 : Int32) = Int32.ofInt (sAt (-116) ((1 : Nat) : Int)) by decide))
  | 2, _ => exact (va_eqt (cl_ (cr_ (cl_ (cl_ (cl_ (cl_ (cr_ (cl_ (cr_ (cl_ (cr_ (cr_ h))))))))))))).trans (congrArg (fun z => some (Value.int z)) (show (83 : Int32) = Int32.ofInt (sAt (-116) ((2 : Nat) : Int)) by decide))
  | 3, _ => exact (va_eqt (cr_ (cr_ (cl_ (cl_ (cl_ (cl_ (cr_ (cl_ (cr_ (cl_ (cr_ (cr_ h))))))))))))).trans (congrArg (fun z => some (Value.int z)) (show (67 : Int32) = Int32.ofInt (sAt (-116) ((3 : Nat) : Int)) by decide))
  | 4, _ => exact (va_eqt (cl_ (cr_ (cl_ (cl_ (cl_ (cr_ (cl_ (cr_ (cl_ (cr_ (cr_ h)))))))))))).trans (congrArg (fun z => some (Value.int z)) (show (72 : Int32) = Int32.ofInt (sAt (-116) ((4 : Nat) : Int)) by decide))
  | 5, _ => exact (va_eqt (cl_ (cr_ (cr_ (cl_ (cl_ (cl_ (cr_ (cl_ (cr_ (cl_ (cr_ (cr_ h))))))))))))).trans (congrArg (fun z => some (Value.int z)) (show (79 : Int32) = Int32.ofInt (sAt (-116) ((5 : Nat) : Int)) by decide))
  | 6, _ => exact (va_eqt (cr_ (cr_ (cr_ (cl_ (cl_ (cl_ (cr_ (cl_ (cr_ (cl_ (cr_ (cr_ h))))))))))))).trans (congrArg (fun z => some (Value.int z)) (show (70 : Int32) = Int32.ofInt (sAt (-116) ((6 : Nat) : Int)) by decide))
  | 7, _ => exact (va_eqt (cl_ (cl_ (cr_ (cl_ (cl_ (cr_ (cl_ (cr_ (cl_ (cr_ (cr_ h)))))))))))).trans (congrArg (fun z => some (Value.int z)) (show (70 : Int32) = Int32.ofInt (sAt (-116) ((7 : Nat) : Int)) by decide))
  | j + 8, hj => exact absurd hj (by omega)
theorem ws_54 {args : Array Value} {s : State} {A : Nat → Prop} (h : (Jvm.Cond.and given_1 narrow_1).before args s = true) (hA : ∀ a : Nat, a < s.heap.size → ¬ A a) : strAt args s A (-118) := by
  refine str_of (N := 6) (tm := (Jvm.Term.string "ElectionHouse$Reader" 144)) rfl rfl (cl_ (cr_ (cl_ (cr_ (cl_ (cl_ (cr_ (cl_ (cr_ (cl_ (cr_ (cr_ h)))))))))))) (cr_ (cr_ (cl_ (cr_ (cl_ (cl_ (cr_ (cl_ (cr_ (cl_ (cr_ (cr_ h)))))))))))) (cl_ (cr_ (cr_ (cl_ (cl_ (cr_ (cl_ (cr_ (cl_ (cr_ (cr_ h))))))))))) (va_eqt (cl_ (cr_ (cr_ (cr_ (cl_ (cl_ (cr_ (cl_ (cr_ (cl_ (cr_ (cr_ h))))))))))))) (fun j hj => ?_) hA
  match j, hj with
  | 0, _ => exact (va_eqt (cr_ (cr_ (cr_ (cr_ (cl_ (cl_ (cr_ (cl_ (cr_ (cl_ (cr_ (cr_ h))))))))))))).trans (congrArg (fun z => some (Value.int z)) (show (68 : Int32) = Int32.ofInt (sAt (-118) ((0 : Nat) : Int)) by decide))
  | 1, _ => exact (va_eqt (cl_ (cl_ (cl_ (cr_ (cl_ (cr_ (cl_ (cr_ (cl_ (cr_ (cr_ h)))))))))))).trans (congrArg (fun z => some (Value.int z)) (show (79 : Int32) = Int32.ofInt (sAt (-118) ((1 : Nat) : Int)) by decide))
  | 2, _ => exact (va_eqt (cl_ (cr_ (cl_ (cl_ (cr_ (cl_ (cr_ (cl_ (cr_ (cl_ (cr_ (cr_ h))))))))))))).trans (congrArg (fun z => some (Value.int z)) (show (85 : Int32) = Int32.ofInt (sAt (-118) ((2 : Nat) : Int)) by decide))
  | 3, _ => exact (va_eqt (cr_ (cr_ (cl_ (cl_ (cr_ (cl_ (cr_ (cl_ (cr_ (cl_ (cr_ (cr_ h))))))))))))).trans (congrArg (fun z => some (Value.int z)) (show (66 : Int32) = Int32.ofInt (sAt (-118) ((3 : Nat) : Int)) by decide))
  | 4, _ => exact (va_eqt (cl_ (cr_ (cl_ (cr_ (cl_ (cr_ (cl_ (cr_ (cl_ (cr_ (cr_ h)))))))))))).trans (congrArg (fun z => some (Value.int z)) (show (76 : Int32) = Int32.ofInt (sAt (-118) ((4 : Nat) : Int)) by decide))
  | 5, _ => exact (va_eqt (cl_ (cr_ (cr_ (cl_ (cr_ (cl_ (cr_ (cl_ (cr_ (cl_ (cr_ (cr_ h))))))))))))).trans (congrArg (fun z => some (Value.int z)) (show (69 : Int32) = Int32.ofInt (sAt (-118) ((5 : Nat) : Int)) by decide))
  | j + 6, hj => exact absurd hj (by omega)
