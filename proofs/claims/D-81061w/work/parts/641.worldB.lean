set_option maxRecDepth 100000
set_option maxHeartbeats 4000000
theorem ws_all {args : Array Value} {s : State} {A : Nat → Prop} (h : (Jvm.Cond.and given_1 narrow_1).before args s = true) (hA : ∀ a : Nat, a < s.heap.size → ¬ A a) : ∀ i : Nat, i < 55 → strAt args s A (-(10 + 2 * (i : Int)))
  | 0, _ => ws_0 h hA
  | 1, _ => ws_1 h hA
  | 2, _ => ws_2 h hA
  | 3, _ => ws_3 h hA
  | 4, _ => ws_4 h hA
  | 5, _ => ws_5 h hA
  | 6, _ => ws_6 h hA
  | 7, _ => ws_7 h hA
  | 8, _ => ws_8 h hA
  | 9, _ => ws_9 h hA
  | 10, _ => ws_10 h hA
  | 11, _ => ws_11 h hA
  | 12, _ => ws_12 h hA
  | 13, _ => ws_13 h hA
  | 14, _ => ws_14 h hA
  | 15, _ => ws_15 h hA
  | 16, _ => ws_16 h hA
  | 17, _ => ws_17 h hA
  | 18, _ => ws_18 h hA
  | 19, _ => ws_19 h hA
  | 20, _ => ws_20 h hA
  | 21, _ => ws_21 h hA
  | 22, _ => ws_22 h hA
  | 23, _ => ws_23 h hA
  | 24, _ => ws_24 h hA
  | 25, _ => ws_25 h hA
  | 26, _ => ws_26 h hA
  | 27, _ => ws_27 h hA
  | 28, _ => ws_28 h hA
  | 29, _ => ws_29 h hA
  | 30, _ => ws_30 h hA
  | 31, _ => ws_31 h hA
  | 32, _ => ws_32 h hA
  | 33, _ => ws_33 h hA
  | 34, _ => ws_34 h hA
  | 35, _ => ws_35 h hA
  | 36, _ => ws_36 h hA
  | 37, _ => ws_37 h hA
  | 38, _ => ws_38 h hA
  | 39, _ => ws_39 h hA
  | 40, _ => ws_40 h hA
  | 41, _ => ws_41 h hA
  | 42, _ => ws_42 h hA
  | 43, _ => ws_43 h hA
  | 44, _ => ws_44 h hA
  | 45, _ => ws_45 h hA
  | 46, _ => ws_46 h hA
  | 47, _ => ws_47 h hA
  | 48, _ => ws_48 h hA
  | 49, _ => ws_49 h hA
  | 50, _ => ws_50 h hA
  | 51, _ => ws_51 h hA
  | 52, _ => ws_52 h hA
  | 53, _ => ws_53 h hA
  | 54, _ => ws_54 h hA
  | i + 55, hi => absurd hi (by omega)
theorem wa_K {args : Array Value} {s : State} {A : Nat → Prop} (h : (Jvm.Cond.and given_1 narrow_1).before args s = true) (ht0 : ∀ w ∈ lw_tbl, w.before args s = true) (hA : ∀ a : Nat, a < s.heap.size → ¬ A a) : ∃ t : Nat, va_T .int t 64 (fun j => .int (Int32.ofInt (xK.getD j 0))) A s s.heap ∧ va_Z "ElectionHouse$Digests" "K" "[I" (.ref t) A s s.heap := by
  have hel : ∀ j : Nat, j < 64 → (Term.elem (.static "ElectionHouse$Digests" "K" "[I") (.int (Int32.ofNat j))).eval args s none [] s = some (.int (Int32.ofInt (xK.getD j 0))) := by
    intro j hj
    match j, hj with
    | 0, _ => exact (va_eqt (cl_ (cl_ (cr_ (cr_ (cl_ (cl_ (cl_ (cl_ (cl_ (cr_ h))))))))))).trans (congrArg (fun z => some (Value.int z)) (show (1116352408 : Int32) = Int32.ofInt (xK.getD 0 0) by decide))
    | 1, _ => exact (va_eqt (cl_ (cr_ (cl_ (cr_ (cr_ (cl_ (cl_ (cl_ (cl_ (cl_ (cr_ h)))))))))))).trans (congrArg (fun z => some (Value.int z)) (show (1899447441 : Int32) = Int32.ofInt (xK.getD 1 0) by decide))
    | 2, _ => exact (va_eqt (cr_ (cr_ (cl_ (cr_ (cr_ (cl_ (cl_ (cl_ (cl_ (cl_ (cr_ h)))))))))))).trans (congrArg (fun z => some (Value.int z)) (show (-1245643825 : Int32) = Int32.ofInt (xK.getD 2 0) by decide))
    | 3, _ => exact (va_eqt (cl_ (cl_ (cr_ (cr_ (cr_ (cl_ (cl_ (cl_ (cl_ (cl_ (cr_ h)))))))))))).trans (congrArg (fun z => some (Value.int z)) (show (-373957723 : Int32) = Int32.ofInt (xK.getD 3 0) by decide))
    | 4, _ => exact (va_eqt (cr_ (cl_ (cr_ (cr_ (cr_ (cl_ (cl_ (cl_ (cl_ (cl_ (cr_ h)))))))))))).trans (congrArg (fun z => some (Value.int z)) (show (961987163 : Int32) = Int32.ofInt (xK.getD 4 0) by decide))
    | 5, _ => exact (va_eqt (cl_ (cr_ (cr_ (cr_ (cr_ (cl_ (cl_ (cl_ (cl_ (cl_ (cr_ h)))))))))))).trans (congrArg (fun z => some (Value.int z)) (show (1508970993 : Int32) = Int32.ofInt (xK.getD 5 0) by decide))
    | 6, _ => exact (va_eqt (cr_ (cr_ (cr_ (cr_ (cr_ (cl_ (cl_ (cl_ (cl_ (cl_ (cr_ h)))))))))))).trans (congrArg (fun z => some (Value.int z)) (show (-1841331548 : Int32) = Int32.ofInt (xK.getD 6 0) by decide))
    | 7, _ => exact (va_eqt (cl_ (cl_ (cl_ (cl_ (cr_ (cl_ (cl_ (cl_ (cl_ (cr_ h))))))))))).trans (congrArg (fun z => some (Value.int z)) (show (-1424204075 : Int32) = Int32.ofInt (xK.getD 7 0) by decide))
    | 8, _ => exact (va_eqt (cl_ (cr_ (cl_ (cl_ (cl_ (cr_ (cl_ (cl_ (cl_ (cl_ (cr_ h)))))))))))).trans (congrArg (fun z => some (Value.int z)) (show (-670586216 : Int32) = Int32.ofInt (xK.getD 8 0) by decide))
    | 9, _ => exact (va_eqt (cr_ (cr_ (cl_ (cl_ (cl_ (cr_ (cl_ (cl_ (cl_ (cl_ (cr_ h)))))))))))).trans (congrArg (fun z => some (Value.int z)) (show (310598401 : Int32) = Int32.ofInt (xK.getD 9 0) by decide))
    | 10, _ => exact (va_eqt (cl_ (cr_ (cl_ (cl_ (cr_ (cl_ (cl_ (cl_ (cl_ (cr_ h))))))))))).trans (congrArg (fun z => some (Value.int z)) (show (607225278 : Int32) = Int32.ofInt (xK.getD 10 0) by decide))
    | 11, _ => exact (va_eqt (cl_ (cr_ (cr_ (cl_ (cl_ (cr_ (cl_ (cl_ (cl_ (cl_ (cr_ h)))))))))))).trans (congrArg (fun z => some (Value.int z)) (show (1426881987 : Int32) = Int32.ofInt (xK.getD 11 0) by decide))
    | 12, _ => exact (va_eqt (cr_ (cr_ (cr_ (cl_ (cl_ (cr_ (cl_ (cl_ (cl_ (cl_ (cr_ h)))))))))))).trans (congrArg (fun z => some (Value.int z)) (show (1925078388 : Int32) = Int32.ofInt (xK.getD 12 0) by decide))
    | 13, _ => exact (va_eqt (cl_ (cl_ (cr_ (cl_ (cr_ (cl_ (cl_ (cl_ (cl_ (cr_ h))))))))))).trans (congrArg (fun z => some (Value.int z)) (show (-2132889090 : Int32) = Int32.ofInt (xK.getD 13 0) by decide))
    | 14, _ => exact (va_eqt (cl_ (cr_ (cl_ (cr_ (cl_ (cr_ (cl_ (cl_ (cl_ (cl_ (cr_ h)))))))))))).trans (congrArg (fun z => some (Value.int z)) (show (-1680079193 : Int32) = Int32.ofInt (xK.getD 14 0) by decide))
    | 15, _ => exact (va_eqt (cr_ (cr_ (cl_ (cr_ (cl_ (cr_ (cl_ (cl_ (cl_ (cl_ (cr_ h)))))))))))).trans (congrArg (fun z => some (Value.int z)) (show (-1046744716 : Int32) = Int32.ofInt (xK.getD 15 0) by decide))
    | 16, _ => exact (va_eqt (cl_ (cr_ (cr_ (cl_ (cr_ (cl_ (cl_ (cl_ (cl_ (cr_ h))))))))))).trans (congrArg (fun z => some (Value.int z)) (show (-459576895 : Int32) = Int32.ofInt (xK.getD 16 0) by decide))
    | 17, _ => exact (va_eqt (cl_ (cr_ (cr_ (cr_ (cl_ (cr_ (cl_ (cl_ (cl_ (cl_ (cr_ h)))))))))))).trans (congrArg (fun z => some (Value.int z)) (show (-272742522 : Int32) = Int32.ofInt (xK.getD 17 0) by decide))
    | 18, _ => exact (va_eqt (cr_ (cr_ (cr_ (cr_ (cl_ (cr_ (cl_ (cl_ (cl_ (cl_ (cr_ h)))))))))))).trans (congrArg (fun z => some (Value.int z)) (show (264347078 : Int32) = Int32.ofInt (xK.getD 18 0) by decide))
    | 19, _ => exact (va_eqt (cl_ (cl_ (cl_ (cr_ (cr_ (cl_ (cl_ (cl_ (cl_ (cr_ h))))))))))).trans (congrArg (fun z => some (Value.int z)) (show (604807628 : Int32) = Int32.ofInt (xK.getD 19 0) by decide))
    | 20, _ => exact (va_eqt (cl_ (cr_ (cl_ (cl_ (cr_ (cr_ (cl_ (cl_ (cl_ (cl_ (cr_ h)))))))))))).trans (congrArg (fun z => some (Value.int z)) (show (770255983 : Int32) = Int32.ofInt (xK.getD 20 0) by decide))
    | 21, _ => exact (va_eqt (cr_ (cr_ (cl_ (cl_ (cr_ (cr_ (cl_ (cl_ (cl_ (cl_ (cr_ h)))))))))))).trans (congrArg (fun z => some (Value.int z)) (show (1249150122 : Int32) = Int32.ofInt (xK.getD 21 0) by decide))
    | 22, _ => exact (va_eqt (cl_ (cr_ (cl_ (cr_ (cr_ (cl_ (cl_ (cl_ (cl_ (cr_ h))))))))))).trans (congrArg (fun z => some (Value.int z)) (show (1555081692 : Int32) = Int32.ofInt (xK.getD 22 0) by decide))
    | 23, _ => exact (va_eqt (cl_ (cr_ (cr_ (cl_ (cr_ (cr_ (cl_ (cl_ (cl_ (cl_ (cr_ h)))))))))))).trans (congrArg (fun z => some (Value.int z)) (show (1996064986 : Int32) = Int32.ofInt (xK.getD 23 0) by decide))
    | 24, _ => exact (va_eqt (cr_ (cr_ (cr_ (cl_ (cr_ (cr_ (cl_ (cl_ (cl_ (cl_ (cr_ h)))))))))))).trans (congrArg (fun z => some (Value.int z)) (show (-1740746414 : Int32) = Int32.ofInt (xK.getD 24 0) by decide))
    | 25, _ => exact (va_eqt (cl_ (cl_ (cr_ (cr_ (cr_ (cl_ (cl_ (cl_ (cl_ (cr_ h))))))))))).trans (congrArg (fun z => some (Value.int z)) (show (-1473132947 : Int32) = Int32.ofInt (xK.getD 25 0) by decide))
    | 26, _ => exact (va_eqt (cl_ (cr_ (cl_ (cr_ (cr_ (cr_ (cl_ (cl_ (cl_ (cl_ (cr_ h)))))))))))).trans (congrArg (fun z => some (Value.int z)) (show (-1341970488 : Int32) = Int32.ofInt (xK.getD 26 0) by decide))
    | 27, _ => exact (va_eqt (cr_ (cr_ (cl_ (cr_ (cr_ (cr_ (cl_ (cl_ (cl_ (cl_ (cr_ h)))))))))))).trans (congrArg (fun z => some (Value.int z)) (show (-1084653625 : Int32) = Int32.ofInt (xK.getD 27 0) by decide))
    | 28, _ => exact (va_eqt (cl_ (cl_ (cr_ (cr_ (cr_ (cr_ (cl_ (cl_ (cl_ (cl_ (cr_ h)))))))))))).trans (congrArg (fun z => some (Value.int z)) (show (-958395405 : Int32) = Int32.ofInt (xK.getD 28 0) by decide))
    | 29, _ => exact (va_eqt (cr_ (cl_ (cr_ (cr_ (cr_ (cr_ (cl_ (cl_ (cl_ (cl_ (cr_ h)))))))))))).trans (congrArg (fun z => some (Value.int z)) (show (-710438585 : Int32) = Int32.ofInt (xK.getD 29 0) by decide))
    | 30, _ => exact (va_eqt (cl_ (cr_ (cr_ (cr_ (cr_ (cr_ (cl_ (cl_ (cl_ (cl_ (cr_ h)))))))))))).trans (congrArg (fun z => some (Value.int z)) (show (113926993 : Int32) = Int32.ofInt (xK.getD 30 0) by decide))
    | 31, _ => exact (va_eqt (cr_ (cr_ (cr_ (cr_ (cr_ (cr_ (cl_ (cl_ (cl_ (cl_ (cr_ h)))))))))))).trans (congrArg (fun z => some (Value.int z)) (show (338241895 : Int32) = Int32.ofInt (xK.getD 31 0) by decide))
    | 32, _ => exact (va_eqt (cl_ (cl_ (cl_ (cl_ (cl_ (cr_ (cl_ (cl_ (cl_ (cr_ h))))))))))).trans (congrArg (fun z => some (Value.int z)) (show (666307205 : Int32) = Int32.ofInt (xK.getD 32 0) by decide))
    | 33, _ => exact (va_eqt (cl_ (cr_ (cl_ (cl_ (cl_ (cl_ (cr_ (cl_ (cl_ (cl_ (cr_ h)))))))))))).trans (congrArg (fun z => some (Value.int z)) (show (773529912 : Int32) = Int32.ofInt (xK.getD 33 0) by decide))
    | 34, _ => exact (va_eqt (cr_ (cr_ (cl_ (cl_ (cl_ (cl_ (cr_ (cl_ (cl_ (cl_ (cr_ h)))))))))))).trans (congrArg (fun z => some (Value.int z)) (show (1294757372 : Int32) = Int32.ofInt (xK.getD 34 0) by decide))
    | 35, _ => exact (va_eqt (cl_ (cr_ (cl_ (cl_ (cl_ (cr_ (cl_ (cl_ (cl_ (cr_ h))))))))))).trans (congrArg (fun z => some (Value.int z)) (show (1396182291 : Int32) = Int32.ofInt (xK.getD 35 0) by decide))
    | 36, _ => exact (va_eqt (cl_ (cr_ (cr_ (cl_ (cl_ (cl_ (cr_ (cl_ (cl_ (cl_ (cr_ h)))))))))))).trans (congrArg (fun z => some (Value.int z)) (show (1695183700 : Int32) = Int32.ofInt (xK.getD 36 0) by decide))
    | 37, _ => exact (va_eqt (cr_ (cr_ (cr_ (cl_ (cl_ (cl_ (cr_ (cl_ (cl_ (cl_ (cr_ h)))))))))))).trans (congrArg (fun z => some (Value.int z)) (show (1986661051 : Int32) = Int32.ofInt (xK.getD 37 0) by decide))
    | 38, _ => exact (va_eqt (cl_ (cl_ (cr_ (cl_ (cl_ (cr_ (cl_ (cl_ (cl_ (cr_ h))))))))))).trans (congrArg (fun z => some (Value.int z)) (show (-2117940946 : Int32) = Int32.ofInt (xK.getD 38 0) by decide))
    | 39, _ => exact (va_eqt (cl_ (cr_ (cl_ (cr_ (cl_ (cl_ (cr_ (cl_ (cl_ (cl_ (cr_ h)))))))))))).trans (congrArg (fun z => some (Value.int z)) (show (-1838011259 : Int32) = Int32.ofInt (xK.getD 39 0) by decide))
    | 40, _ => exact (va_eqt (cr_ (cr_ (cl_ (cr_ (cl_ (cl_ (cr_ (cl_ (cl_ (cl_ (cr_ h)))))))))))).trans (congrArg (fun z => some (Value.int z)) (show (-1564481375 : Int32) = Int32.ofInt (xK.getD 40 0) by decide))
    | 41, _ => exact (va_eqt (cl_ (cr_ (cr_ (cl_ (cl_ (cr_ (cl_ (cl_ (cl_ (cr_ h))))))))))).trans (congrArg (fun z => some (Value.int z)) (show (-1474664885 : Int32) = Int32.ofInt (xK.getD 41 0) by decide))
    | 42, _ => exact (va_eqt (cl_ (cr_ (cr_ (cr_ (cl_ (cl_ (cr_ (cl_ (cl_ (cl_ (cr_ h)))))))))))).trans (congrArg (fun z => some (Value.int z)) (show (-1035236496 : Int32) = Int32.ofInt (xK.getD 42 0) by decide))
    | 43, _ => exact (va_eqt (cr_ (cr_ (cr_ (cr_ (cl_ (cl_ (cr_ (cl_ (cl_ (cl_ (cr_ h)))))))))))).trans (congrArg (fun z => some (Value.int z)) (show (-949202525 : Int32) = Int32.ofInt (xK.getD 43 0) by decide))
    | 44, _ => exact (va_eqt (cl_ (cl_ (cl_ (cr_ (cl_ (cr_ (cl_ (cl_ (cl_ (cr_ h))))))))))).trans (congrArg (fun z => some (Value.int z)) (show (-778901479 : Int32) = Int32.ofInt (xK.getD 44 0) by decide))
    | 45, _ => exact (va_eqt (cl_ (cr_ (cl_ (cl_ (cr_ (cl_ (cr_ (cl_ (cl_ (cl_ (cr_ h)))))))))))).trans (congrArg (fun z => some (Value.int z)) (show (-694614492 : Int32) = Int32.ofInt (xK.getD 45 0) by decide))
    | 46, _ => exact (va_eqt (cr_ (cr_ (cl_ (cl_ (cr_ (cl_ (cr_ (cl_ (cl_ (cl_ (cr_ h)))))))))))).trans (congrArg (fun z => some (Value.int z)) (show (-200395387 : Int32) = Int32.ofInt (xK.getD 46 0) by decide))
    | 47, _ => exact (va_eqt (cl_ (cr_ (cl_ (cr_ (cl_ (cr_ (cl_ (cl_ (cl_ (cr_ h))))))))))).trans (congrArg (fun z => some (Value.int z)) (show (275423344 : Int32) = Int32.ofInt (xK.getD 47 0) by decide))
    | 48, _ => exact (va_eqt (cl_ (cr_ (cr_ (cl_ (cr_ (cl_ (cr_ (cl_ (cl_ (cl_ (cr_ h)))))))))))).trans (congrArg (fun z => some (Value.int z)) (show (430227734 : Int32) = Int32.ofInt (xK.getD 48 0) by decide))
    | 49, _ => exact (va_eqt (cr_ (cr_ (cr_ (cl_ (cr_ (cl_ (cr_ (cl_ (cl_ (cl_ (cr_ h)))))))))))).trans (congrArg (fun z => some (Value.int z)) (show (506948616 : Int32) = Int32.ofInt (xK.getD 49 0) by decide))
    | 50, _ => exact (va_eqt (cl_ (cl_ (cr_ (cr_ (cl_ (cr_ (cl_ (cl_ (cl_ (cr_ h))))))))))).trans (congrArg (fun z => some (Value.int z)) (show (659060556 : Int32) = Int32.ofInt (xK.getD 50 0) by decide))
    | 51, _ => exact (va_eqt (cl_ (cr_ (cl_ (cr_ (cr_ (cl_ (cr_ (cl_ (cl_ (cl_ (cr_ h)))))))))))).trans (congrArg (fun z => some (Value.int z)) (show (883997877 : Int32) = Int32.ofInt (xK.getD 51 0) by decide))
    | 52, _ => exact (va_eqt (cr_ (cr_ (cl_ (cr_ (cr_ (cl_ (cr_ (cl_ (cl_ (cl_ (cr_ h)))))))))))).trans (congrArg (fun z => some (Value.int z)) (show (958139571 : Int32) = Int32.ofInt (xK.getD 52 0) by decide))
    | 53, _ => exact (va_eqt (cl_ (cl_ (cr_ (cr_ (cr_ (cl_ (cr_ (cl_ (cl_ (cl_ (cr_ h)))))))))))).trans (congrArg (fun z => some (Value.int z)) (show (1322822218 : Int32) = Int32.ofInt (xK.getD 53 0) by decide))
    | 54, _ => exact (va_eqt (cr_ (cl_ (cr_ (cr_ (cr_ (cl_ (cr_ (cl_ (cl_ (cl_ (cr_ h)))))))))))).trans (congrArg (fun z => some (Value.int z)) (show (1537002063 : Int32) = Int32.ofInt (xK.getD 54 0) by decide))
    | 55, _ => exact (va_eqt (cl_ (cr_ (cr_ (cr_ (cr_ (cl_ (cr_ (cl_ (cl_ (cl_ (cr_ h)))))))))))).trans (congrArg (fun z => some (Value.int z)) (show (1747873779 : Int32) = Int32.ofInt (xK.getD 55 0) by decide))
    | 56, _ => exact (va_eqt (cr_ (cr_ (cr_ (cr_ (cr_ (cl_ (cr_ (cl_ (cl_ (cl_ (cr_ h)))))))))))).trans (congrArg (fun z => some (Value.int z)) (show (1955562222 : Int32) = Int32.ofInt (xK.getD 56 0) by decide))
    | 57, _ => exact (va_eqt (cl_ (cl_ (cl_ (cl_ (cr_ (cr_ (cl_ (cl_ (cl_ (cr_ h))))))))))).trans (congrArg (fun z => some (Value.int z)) (show (2024104815 : Int32) = Int32.ofInt (xK.getD 57 0) by decide))
    | 58, _ => exact (va_eqt (cl_ (cr_ (cl_ (cl_ (cl_ (cr_ (cr_ (cl_ (cl_ (cl_ (cr_ h)))))))))))).trans (congrArg (fun z => some (Value.int z)) (show (-2067236844 : Int32) = Int32.ofInt (xK.getD 58 0) by decide))
    | 59, _ => exact (va_eqt (cr_ (cr_ (cl_ (cl_ (cl_ (cr_ (cr_ (cl_ (cl_ (cl_ (cr_ h)))))))))))).trans (congrArg (fun z => some (Value.int z)) (show (-1933114872 : Int32) = Int32.ofInt (xK.getD 59 0) by decide))
    | 60, _ => exact (va_eqt (cl_ (cr_ (cl_ (cl_ (cr_ (cr_ (cl_ (cl_ (cl_ (cr_ h))))))))))).trans (congrArg (fun z => some (Value.int z)) (show (-1866530822 : Int32) = Int32.ofInt (xK.getD 60 0) by decide))
    | 61, _ => exact (va_eqt (cl_ (cr_ (cr_ (cl_ (cl_ (cr_ (cr_ (cl_ (cl_ (cl_ (cr_ h)))))))))))).trans (congrArg (fun z => some (Value.int z)) (show (-1538233109 : Int32) = Int32.ofInt (xK.getD 61 0) by decide))
    | 62, _ => exact (va_eqt (cr_ (cr_ (cr_ (cl_ (cl_ (cr_ (cr_ (cl_ (cl_ (cl_ (cr_ h)))))))))))).trans (congrArg (fun z => some (Value.int z)) (show (-1090935817 : Int32) = Int32.ofInt (xK.getD 62 0) by decide))
    | 63, _ => exact (va_eqt (cl_ (cl_ (cr_ (cl_ (cr_ (cr_ (cl_ (cl_ (cl_ (cr_ h))))))))))).trans (congrArg (fun z => some (Value.int z)) (show (-965641998 : Int32) = Int32.ofInt (xK.getD 63 0) by decide))
    | j + 64, hj => exact absurd hj (by omega)
  obtain ⟨t, ht, hT⟩ := va_Tof (tm := .static "ElectionHouse$Digests" "K" "[I") (N := 64) (f := fun j => .int (Int32.ofInt (xK.getD j 0))) (A := A) (by decide) (cl_ (cr_ (cr_ (cl_ (cr_ (cl_ (cl_ (cl_ (cl_ (cl_ (cr_ h))))))))))) (va_eqt (cr_ (cr_ (cr_ (cl_ (cr_ (cl_ (cl_ (cl_ (cl_ (cl_ (cr_ h)))))))))))) hel hA
  exact ⟨t, hT, va_Zof (ht0 _ q1168) (ht0 _ (lw_all_tbl q292)) ht hA⟩
theorem wa_BEGIN {args : Array Value} {s : State} {A : Nat → Prop} (h : (Jvm.Cond.and given_1 narrow_1).before args s = true) (ht0 : ∀ w ∈ lw_tbl, w.before args s = true) (hA : ∀ a : Nat, a < s.heap.size → ¬ A a) : ∃ t : Nat, va_T .int t 8 (fun j => .int (Int32.ofInt (xB.getD j 0))) A s s.heap ∧ va_Z "ElectionHouse$Digests" "BEGIN" "[I" (.ref t) A s s.heap := by
  have hel : ∀ j : Nat, j < 8 → (Term.elem (.static "ElectionHouse$Digests" "BEGIN" "[I") (.int (Int32.ofNat j))).eval args s none [] s = some (.int (Int32.ofInt (xB.getD j 0))) := by
    intro j hj
    match j, hj with
    | 0, _ => exact (va_eqt (cl_ (cr_ (cl_ (cr_ (cl_ (cl_ (cl_ (cl_ (cl_ (cl_ (cr_ h)))))))))))).trans (congrArg (fun z => some (Value.int z)) (show (1779033703 : Int32) = Int32.ofInt (xB.getD 0 0) by decide))
    | 1, _ => exact (va_eqt (cr_ (cr_ (cl_ (cr_ (cl_ (cl_ (cl_ (cl_ (cl_ (cl_ (cr_ h)))))))))))).trans (congrArg (fun z => some (Value.int z)) (show (-1150833019 : Int32) = Int32.ofInt (xB.getD 1 0) by decide))
    | 2, _ => exact (va_eqt (cl_ (cr_ (cr_ (cl_ (cl_ (cl_ (cl_ (cl_ (cl_ (cr_ h))))))))))).trans (congrArg (fun z => some (Value.int z)) (show (1013904242 : Int32) = Int32.ofInt (xB.getD 2 0) by decide))
    | 3, _ => exact (va_eqt (cl_ (cr_ (cr_ (cr_ (cl_ (cl_ (cl_ (cl_ (cl_ (cl_ (cr_ h)))))))))))).trans (congrArg (fun z => some (Value.int z)) (show (-1521486534 : Int32) = Int32.ofInt (xB.getD 3 0) by decide))
    | 4, _ => exact (va_eqt (cr_ (cr_ (cr_ (cr_ (cl_ (cl_ (cl_ (cl_ (cl_ (cl_ (cr_ h)))))))))))).trans (congrArg (fun z => some (Value.int z)) (show (1359893119 : Int32) = Int32.ofInt (xB.getD 4 0) by decide))
    | 5, _ => exact (va_eqt (cl_ (cl_ (cl_ (cr_ (cl_ (cl_ (cl_ (cl_ (cl_ (cr_ h))))))))))).trans (congrArg (fun z => some (Value.int z)) (show (-1694144372 : Int32) = Int32.ofInt (xB.getD 5 0) by decide))
    | 6, _ => exact (va_eqt (cl_ (cr_ (cl_ (cl_ (cr_ (cl_ (cl_ (cl_ (cl_ (cl_ (cr_ h)))))))))))).trans (congrArg (fun z => some (Value.int z)) (show (528734635 : Int32) = Int32.ofInt (xB.getD 6 0) by decide))
    | 7, _ => exact (va_eqt (cr_ (cr_ (cl_ (cl_ (cr_ (cl_ (cl_ (cl_ (cl_ (cl_ (cr_ h)))))))))))).trans (congrArg (fun z => some (Value.int z)) (show (1541459225 : Int32) = Int32.ofInt (xB.getD 7 0) by decide))
    | j + 8, hj => exact absurd hj (by omega)
  obtain ⟨t, ht, hT⟩ := va_Tof (tm := .static "ElectionHouse$Digests" "BEGIN" "[I") (N := 8) (f := fun j => .int (Int32.ofInt (xB.getD j 0))) (A := A) (by decide) (cr_ (cr_ (cr_ (cl_ (cl_ (cl_ (cl_ (cl_ (cl_ (cl_ (cr_ h))))))))))) (va_eqt (cl_ (cl_ (cr_ (cl_ (cl_ (cl_ (cl_ (cl_ (cl_ (cr_ h))))))))))) hel hA
  exact ⟨t, hT, va_Zof (ht0 _ q1166) (ht0 _ (lw_all_tbl q292)) ht hA⟩
theorem wa_C {args : Array Value} {s : State} {A : Nat → Prop} (h : (Jvm.Cond.and given_1 narrow_1).before args s = true) (ht0 : ∀ w ∈ lw_tbl, w.before args s = true) (hA : ∀ a : Nat, a < s.heap.size → ¬ A a) : va_Z "java/lang/String" "COMPACT_STRINGS" "Z" (.int 1) A s s.heap := va_Zof (ht0 _ q1384) (ht0 _ (lw_all_tbl q302)) (va_eqi (cl_ (cr_ (cl_ (cr_ (cl_ (cr_ (cr_ (cl_ (cl_ (cl_ (cr_ h)))))))))))) hA
theorem wa_S {args : Array Value} {s : State} {A : Nat → Prop} (h : (Jvm.Cond.and given_1 narrow_1).before args s = true) (ht0 : ∀ w ∈ lw_tbl, w.before args s = true) (hA : ∀ a : Nat, a < s.heap.size → ¬ A a) : ∃ v : Value, (v = .null ∨ ∃ q, v = .ref q) ∧ va_Z "jdk/internal/util/Preconditions" "SIOOBE_FORMATTER" "Ljava/util/function/BiFunction;" v A s s.heap := by
  obtain ⟨v, hv, hr⟩ := Cond.isRef_spec (cr_ (cr_ (cl_ (cr_ (cl_ (cr_ (cr_ (cl_ (cl_ (cl_ (cr_ h)))))))))))
  exact ⟨v, by cases v <;> simp [Value.isRef] at hr ⊢, va_Zof (ht0 _ q1400) (ht0 _ (lw_all_tbl q304)) hv hA⟩
theorem wa_U {args : Array Value} {s : State} {A : Nat → Prop} (h : (Jvm.Cond.and given_1 narrow_1).before args s = true) (ht0 : ∀ w ∈ lw_tbl, w.before args s = true) (hA : ∀ a : Nat, a < s.heap.size → ¬ A a) : ∃ v : Value, (v = .null ∨ ∃ q, v = .ref q) ∧ va_Z "java/lang/Throwable" "UNASSIGNED_STACK" "[Ljava/lang/StackTraceElement;" v A s s.heap := by
  obtain ⟨v, hv, hr⟩ := Cond.isRef_spec (cr_ (cr_ (cl_ (cl_ (cl_ (cl_ (cl_ (cl_ (cl_ (cl_ (cr_ h)))))))))))
  exact ⟨v, by cases v <;> simp [Value.isRef] at hr ⊢, va_Zof (ht0 _ q384) (ht0 _ (lw_all_tbl q285)) hv hA⟩
theorem wa_N {args : Array Value} {s : State} {A : Nat → Prop} (h : (Jvm.Cond.and given_1 narrow_1).before args s = true) (ht0 : ∀ w ∈ lw_tbl, w.before args s = true) (hA : ∀ a : Nat, a < s.heap.size → ¬ A a) : ∃ v : Value, (v = .null ∨ ∃ q, v = .ref q) ∧ va_Z "java/lang/Throwable" "SUPPRESSED_SENTINEL" "Ljava/util/List;" v A s s.heap := by
  obtain ⟨v, hv, hr⟩ := Cond.isRef_spec (cl_ (cr_ (cl_ (cl_ (cl_ (cl_ (cl_ (cl_ (cl_ (cr_ h))))))))))
  exact ⟨v, by cases v <;> simp [Value.isRef] at hr ⊢, va_Zof (ht0 _ q386) (ht0 _ (lw_all_tbl q285)) hv hA⟩
theorem evs {s : State} {own : String} {k : Nat} {a : Nat} {args : Array Value} (h : (Term.string own k).eval args s none [] s = some (.ref a)) : (Term.string own k).eval #[] s none [] s = some (.ref a) := h
theorem wr_all {args : Array Value} {s : State} {ad : Int → Nat} (h : (Jvm.Cond.and given_1 narrow_1).before args s = true) (ht0 : ∀ w ∈ lw_tbl, w.before args s = true) (hs : ∀ i : Nat, i < 55 → (tmA (-(10 + 2 * (i : Int)))).eval args s none [] s = some (.ref (ad (-(10 + 2 * (i : Int)))))) : ∀ q ∈ sTab, vk_R q.1 q.2.1 q.2.2.1 (ad q.2.2.2) s := by
  intro q hq
  obtain ⟨j, hj⟩ := List.mem_iff_getElem?.mp hq
  clear hq
  match j, hj with
  | 0, hj => cases hj; exact vk_R.of (A := args) (ht0 _ q426) (hs 0 (by decide))
  | 1, hj => cases hj; exact vk_R.of (A := args) (ht0 _ q427) (hs 1 (by decide))
  | 2, hj => cases hj; exact vk_R.of (A := args) (ht0 _ q428) (hs 2 (by decide))
  | 3, hj => cases hj; exact vk_R.of (A := args) (ht0 _ q429) (hs 3 (by decide))
  | 4, hj => cases hj; exact vk_R.of (A := args) (ht0 _ q430) (hs 4 (by decide))
  | 5, hj => cases hj; exact vk_R.of (A := args) (ht0 _ q431) (hs 5 (by decide))
  | 6, hj => cases hj; exact vk_R.of (A := args) (ht0 _ q432) (hs 6 (by decide))
  | 7, hj => cases hj; exact vk_R.of (A := args) (ht0 _ q433) (hs 7 (by decide))
  | 8, hj => cases hj; exact vk_R.of (A := args) (ht0 _ q434) (hs 8 (by decide))
  | 9, hj => cases hj; exact vk_R.of (A := args) (ht0 _ q435) (hs 9 (by decide))
  | 10, hj => cases hj; exact vk_R.of (A := args) (ht0 _ q436) (hs 10 (by decide))
  | 11, hj => cases hj; exact vk_R.of (A := args) (ht0 _ q437) (hs 11 (by decide))
  | 12, hj => cases hj; exact vk_R.of (A := args) (ht0 _ q438) (hs 12 (by decide))
  | 13, hj => cases hj; exact vk_R.of (A := args) (ht0 _ q439) (hs 13 (by decide))
  | 14, hj => cases hj; exact vk_R.of (A := args) (ht0 _ q440) (hs 14 (by decide))
  | 15, hj => cases hj; exact vk_R.of (A := args) (ht0 _ q441) (hs 15 (by decide))
  | 16, hj => cases hj; exact vk_R.of (A := args) (ht0 _ q442) (hs 16 (by decide))
  | 17, hj => cases hj; exact vk_R.of (A := args) (ht0 _ q443) (hs 17 (by decide))
  | 18, hj => cases hj; exact vk_R.of (A := args) (ht0 _ q444) (hs 18 (by decide))
  | 19, hj => cases hj; exact vk_R.of (A := args) (ht0 _ q445) (hs 19 (by decide))
  | 20, hj => cases hj; exact vk_R.of (A := args) (ht0 _ q446) (hs 20 (by decide))
  | 21, hj => cases hj; exact vk_R.of (A := args) (ht0 _ q447) (hs 21 (by decide))
  | 22, hj => cases hj; exact vk_R.of (A := args) (ht0 _ q448) (hs 22 (by decide))
  | 23, hj => cases hj; exact vk_R.of (A := args) (ht0 _ q449) (hs 23 (by decide))
  | 24, hj => cases hj; exact vk_R.of (A := args) (ht0 _ q450) (hs 24 (by decide))
  | 25, hj => cases hj; exact vk_R.of (A := args) (ht0 _ q451) (hs 25 (by decide))
  | 26, hj => cases hj; exact vk_R.of (A := args) (ht0 _ q452) (hs 26 (by decide))
  | 27, hj => cases hj; exact vk_R.of (A := args) (ht0 _ q453) (hs 27 (by decide))
  | 28, hj => cases hj; exact vk_R.of (A := args) (ht0 _ q454) (hs 28 (by decide))
  | 29, hj => cases hj; exact vk_R.of (A := args) (ht0 _ q455) (hs 29 (by decide))
  | 30, hj => cases hj; exact vk_R.of (A := args) (ht0 _ q456) (hs 30 (by decide))
  | 31, hj => cases hj; exact vk_R.of (A := args) (ht0 _ q457) (hs 31 (by decide))
  | 32, hj => cases hj; exact vk_R.of (A := args) (ht0 _ q458) (hs 32 (by decide))
  | 33, hj => cases hj; exact vk_R.of (A := args) (ht0 _ q459) (hs 33 (by decide))
  | 34, hj => cases hj; exact vk_R.of (A := args) (ht0 _ q460) (hs 34 (by decide))
  | 35, hj => cases hj; exact vk_R.of (A := args) (ht0 _ q461) (hs 35 (by decide))
  | 36, hj => cases hj; exact vk_R.of (A := args) (ht0 _ q462) (hs 36 (by decide))
  | 37, hj => cases hj; exact vk_R.of (A := args) (ht0 _ q463) (hs 37 (by decide))
  | 38, hj => cases hj; exact vk_R.of (A := args) (ht0 _ q464) (hs 38 (by decide))
  | 39, hj => cases hj; exact vk_R.of (A := args) (ht0 _ q465) (hs 39 (by decide))
  | 40, hj => cases hj; exact vk_R.of (A := args) (ht0 _ q466) (hs 40 (by decide))
  | 41, hj => cases hj; exact vk_R.of (A := args) (ht0 _ q467) (hs 41 (by decide))
  | 42, hj => cases hj; exact vk_R.of (A := args) (ht0 _ q468) (hs 42 (by decide))
  | 43, hj => cases hj; exact vk_R.of (A := args) (ht0 _ q469) (hs 43 (by decide))
  | 44, hj => cases hj; exact vk_R.of (A := args) (ht0 _ q470) (hs 44 (by decide))
  | 45, hj => cases hj; exact vk_R.of (A := args) (ht0 _ q471) (hs 45 (by decide))
  | 46, hj => cases hj; exact vk_R.of (A := args) (ht0 _ q472) (hs 46 (by decide))
  | 47, hj => cases hj; exact vk_R.of (A := args) (ht0 _ q473) (hs 47 (by decide))
  | 48, hj => cases hj; exact vk_R.of (A := args) (ht0 _ q474) (hs 48 (by decide))
  | 49, hj => cases hj; exact vk_R.of (A := args) (ht0 _ q475) (hs 49 (by decide))
  | 50, hj => cases hj; exact vk_R.of (A := args) (ht0 _ q476) (hs 50 (by decide))
  | 51, hj => cases hj; exact vk_R.of (A := args) (ht0 _ q477) (hs 51 (by decide))
  | 52, hj => cases hj; exact vk_R.of (A := args) (ht0 _ q478) (hs 52 (by decide))
  | 53, hj => cases hj; exact vk_R.of (A := args) (ht0 _ q479) (hs 53 (by decide))
  | 54, hj => cases hj; exact vk_R.of (A := args) (ht0 _ q480) (hs 54 (by decide))
  | 55, hj => cases hj; exact vk_R.of (A := args) (ht0 _ q2560) (va_eqR (cl_ (cl_ (cl_ (cl_ (cr_ (cr_ (cl_ (cr_ (cl_ (cr_ (cr_ h))))))))))) (hs 0 (by decide)))
  | 56, hj => cases hj; exact vk_R.of (A := args) (ht0 _ q2561) (va_eqR (cr_ (cr_ (cl_ (cr_ (cl_ (cr_ (cr_ (cl_ (cr_ (cl_ (cr_ (cr_ h)))))))))))) (hs 1 (by decide)))
  | 57, hj => cases hj; exact vk_R.of (A := args) (ht0 _ q2562) (va_eqR (cr_ (cr_ (cr_ (cl_ (cr_ (cr_ (cr_ (cl_ (cr_ (cl_ (cr_ (cr_ h)))))))))))) (hs 2 (by decide)))
  | 58, hj => cases hj; exact vk_R.of (A := args) (ht0 _ q2563) (va_eqR (cr_ (cr_ (cl_ (cl_ (cl_ (cl_ (cl_ (cr_ (cr_ (cl_ (cr_ (cr_ h)))))))))))) (hs 3 (by decide)))
  | 59, hj => cases hj; exact vk_R.of (A := args) (ht0 _ q2564) (va_eqR (cr_ (cr_ (cr_ (cl_ (cr_ (cl_ (cl_ (cr_ (cr_ (cl_ (cr_ (cr_ h)))))))))))) (hs 4 (by decide)))
  | 60, hj => cases hj; exact vk_R.of (A := args) (ht0 _ q2565) (va_eqR (cr_ (cr_ (cl_ (cl_ (cl_ (cr_ (cl_ (cr_ (cr_ (cl_ (cr_ (cr_ h)))))))))))) (hs 5 (by decide)))
  | 61, hj => cases hj; exact vk_R.of (A := args) (ht0 _ q2566) (va_eqR (cr_ (cr_ (cr_ (cr_ (cl_ (cr_ (cl_ (cr_ (cr_ (cl_ (cr_ (cr_ h)))))))))))) (hs 6 (by decide)))
  | 62, hj => cases hj; exact vk_R.of (A := args) (ht0 _ q2567) (va_eqR (cl_ (cr_ (cr_ (cr_ (cr_ (cr_ (cl_ (cr_ (cr_ (cl_ (cr_ (cr_ h)))))))))))) (hs 7 (by decide)))
  | 63, hj => cases hj; exact vk_R.of (A := args) (ht0 _ q2602) (va_eqR (cl_ (cr_ (cr_ (cl_ (cl_ (cr_ (cr_ (cr_ (cl_ (cr_ (cr_ h))))))))))) (hs 13 (by decide)))
  | 64, hj => cases hj; exact vk_R.of (A := args) (ht0 _ q2611) (va_eqR (cl_ (cl_ (cr_ (cr_ (cl_ (cr_ (cr_ (cr_ (cl_ (cr_ (cr_ h))))))))))) (hs 12 (by decide)))
  | 65, hj => cases hj; exact vk_R.of (A := args) (ht0 _ q2623) (va_eqR (cl_ (cr_ (cl_ (cl_ (cl_ (cr_ (cr_ (cr_ (cr_ (cl_ (cr_ (cr_ h)))))))))))) (hs 24 (by decide)))
  | 66, hj => cases hj; exact vk_R.of (A := args) (ht0 _ q2624) (va_eqR (cl_ (cr_ (cr_ (cl_ (cr_ (cr_ (cr_ (cr_ (cl_ (cr_ (cr_ h))))))))))) (hs 25 (by decide)))
  | 67, hj => cases hj; exact vk_R.of (A := args) (ht0 _ q2625) (va_eqR (cr_ (cr_ (cr_ (cl_ (cr_ (cr_ (cr_ (cr_ (cr_ (cl_ (cr_ (cr_ h)))))))))))) (hs 26 (by decide)))
  | 68, hj => cases hj; exact vk_R.of (A := args) (ht0 _ q2626) (va_eqR (cl_ (cl_ (cl_ (cl_ (cl_ (cl_ (cl_ (cl_ (cr_ (cr_ (cr_ h))))))))))) (hs 27 (by decide)))
  | 69, hj => cases hj; exact vk_R.of (A := args) (ht0 _ q2627) (va_eqR (cr_ (cr_ (cl_ (cr_ (cl_ (cl_ (cl_ (cl_ (cl_ (cr_ (cr_ (cr_ h)))))))))))) (hs 28 (by decide)))
  | 70, hj => cases hj; exact vk_R.of (A := args) (ht0 _ q2628) (va_eqR (cl_ (cr_ (cr_ (cl_ (cr_ (cl_ (cl_ (cl_ (cl_ (cr_ (cr_ (cr_ h)))))))))))) (hs 29 (by decide)))
  | 71, hj => cases hj; exact vk_R.of (A := args) (ht0 _ q2629) (va_eqR (cl_ (cl_ (cl_ (cl_ (cr_ (cl_ (cl_ (cl_ (cr_ (cr_ (cr_ h))))))))))) (hs 30 (by decide)))
  | 72, hj => cases hj; exact vk_R.of (A := args) (ht0 _ q2642) (va_eqR (cr_ (cr_ (cl_ (cr_ (cl_ (cr_ (cl_ (cl_ (cl_ (cr_ (cr_ (cr_ h)))))))))))) (hs 16 (by decide)))
  | 73, hj => cases hj; exact vk_R.of (A := args) (ht0 _ q2651) (va_eqR (cl_ (cr_ (cr_ (cl_ (cr_ (cr_ (cl_ (cl_ (cl_ (cr_ (cr_ (cr_ h)))))))))))) (hs 17 (by decide)))
  | 74, hj => cases hj; exact vk_R.of (A := args) (ht0 _ q2652) (va_eqR (cl_ (cr_ (cl_ (cl_ (cl_ (cl_ (cr_ (cl_ (cl_ (cr_ (cr_ (cr_ h)))))))))))) (hs 18 (by decide)))
  | 75, hj => cases hj; exact vk_R.of (A := args) (ht0 _ q2653) (va_eqR (cr_ (cr_ (cl_ (cr_ (cl_ (cl_ (cr_ (cl_ (cl_ (cr_ (cr_ (cr_ h)))))))))))) (hs 9 (by decide)))
  | 76, hj => cases hj; exact vk_R.of (A := args) (ht0 _ q2654) (va_eqR (cr_ (cr_ (cr_ (cl_ (cr_ (cl_ (cr_ (cl_ (cl_ (cr_ (cr_ (cr_ h)))))))))))) (hs 19 (by decide)))
  | 77, hj => cases hj; exact vk_R.of (A := args) (ht0 _ q2659) (va_eqR (cr_ (cr_ (cr_ (cr_ (cr_ (cl_ (cr_ (cl_ (cl_ (cr_ (cr_ (cr_ h)))))))))))) (hs 20 (by decide)))
  | 78, hj => cases hj; exact vk_R.of (A := args) (ht0 _ q2660) (va_eqR (cl_ (cr_ (cl_ (cr_ (cl_ (cr_ (cr_ (cl_ (cl_ (cr_ (cr_ (cr_ h)))))))))))) (hs 15 (by decide)))
  | 79, hj => cases hj; exact vk_R.of (A := args) (ht0 _ q2661) (va_eqR (cr_ (cr_ (cl_ (cl_ (cr_ (cr_ (cr_ (cl_ (cl_ (cr_ (cr_ (cr_ h)))))))))))) (hs 14 (by decide)))
  | 80, hj => cases hj; exact vk_R.of (A := args) (ht0 _ q2666) (va_eqR (cl_ (cr_ (cr_ (cr_ (cr_ (cr_ (cr_ (cl_ (cl_ (cr_ (cr_ (cr_ h)))))))))))) (hs 8 (by decide)))
  | 81, hj => cases hj; exact vk_R.of (A := args) (ht0 _ q2675) (va_eqR (cr_ (cr_ (cl_ (cr_ (cl_ (cl_ (cl_ (cr_ (cl_ (cr_ (cr_ (cr_ h)))))))))))) (hs 10 (by decide)))
  | 82, hj => cases hj; exact vk_R.of (A := args) (ht0 _ q2676) (va_eqR (cl_ (cr_ (cl_ (cr_ (cl_ (cl_ (cr_ (cl_ (cr_ (cr_ (cr_ h))))))))))) (hs 11 (by decide)))
  | 83, hj => cases hj; exact vk_R.of (A := args) (ht0 _ q2680) (va_eqR (cl_ (cr_ (cl_ (cl_ (cl_ (cr_ (cl_ (cr_ (cl_ (cr_ (cr_ (cr_ h)))))))))))) (hs 31 (by decide)))
  | 84, hj => cases hj; exact vk_R.of (A := args) (ht0 _ q2681) (va_eqR (cr_ (cr_ (cr_ (cr_ (cl_ (cr_ (cl_ (cr_ (cl_ (cr_ (cr_ (cr_ h)))))))))))) (hs 32 (by decide)))
  | 85, hj => cases hj; exact vk_R.of (A := args) (ht0 _ q2682) (va_eqR (cr_ (cr_ (cr_ (cr_ (cr_ (cr_ (cl_ (cr_ (cl_ (cr_ (cr_ (cr_ h)))))))))))) (hs 33 (by decide)))
  | 86, hj => cases hj; exact vk_R.of (A := args) (ht0 _ q2683) (va_eqR (cl_ (cr_ (cr_ (cr_ (cl_ (cl_ (cr_ (cr_ (cl_ (cr_ (cr_ (cr_ h)))))))))))) (hs 34 (by decide)))
  | 87, hj => cases hj; exact vk_R.of (A := args) (ht0 _ q2684) (va_eqR (cl_ (cl_ (cr_ (cr_ (cr_ (cl_ (cr_ (cr_ (cl_ (cr_ (cr_ (cr_ h)))))))))))) (hs 35 (by decide)))
  | 88, hj => cases hj; exact vk_R.of (A := args) (ht0 _ q2685) (va_eqR (cl_ (cl_ (cr_ (cl_ (cr_ (cr_ (cr_ (cl_ (cr_ (cr_ (cr_ h))))))))))) (hs 36 (by decide)))
  | 89, hj => cases hj; exact vk_R.of (A := args) (ht0 _ q2686) (va_eqR (cr_ (cr_ (cl_ (cl_ (cr_ (cr_ (cr_ (cr_ (cl_ (cr_ (cr_ (cr_ h)))))))))))) (hs 37 (by decide)))
  | 90, hj => cases hj; exact vk_R.of (A := args) (ht0 _ q2687) (va_eqR (cr_ (cr_ (cr_ (cr_ (cr_ (cr_ (cr_ (cr_ (cl_ (cr_ (cr_ (cr_ h)))))))))))) (hs 38 (by decide)))
  | 91, hj => cases hj; exact vk_R.of (A := args) (ht0 _ q2688) (va_eqR (cl_ (cr_ (cr_ (cl_ (cl_ (cl_ (cl_ (cr_ (cr_ (cr_ (cr_ h))))))))))) (hs 39 (by decide)))
  | 92, hj => cases hj; exact vk_R.of (A := args) (ht0 _ q2689) (va_eqR (cl_ (cr_ (cl_ (cr_ (cr_ (cl_ (cl_ (cl_ (cr_ (cr_ (cr_ (cr_ h)))))))))))) (hs 40 (by decide)))
  | 93, hj => cases hj; exact vk_R.of (A := args) (ht0 _ q2690) (va_eqR (cl_ (cr_ (cl_ (cl_ (cr_ (cl_ (cl_ (cr_ (cr_ (cr_ (cr_ h))))))))))) (hs 41 (by decide)))
  | 94, hj => cases hj; exact vk_R.of (A := args) (ht0 _ q2691) (va_eqR (cl_ (cl_ (cl_ (cr_ (cr_ (cl_ (cl_ (cr_ (cr_ (cr_ (cr_ h))))))))))) (hs 42 (by decide)))
  | 95, hj => cases hj; exact vk_R.of (A := args) (ht0 _ q2692) (va_eqR (cl_ (cl_ (cl_ (cl_ (cl_ (cr_ (cl_ (cr_ (cr_ (cr_ (cr_ h))))))))))) (hs 43 (by decide)))
  | 96, hj => cases hj; exact vk_R.of (A := args) (ht0 _ q2693) (va_eqR (cl_ (cr_ (cr_ (cr_ (cl_ (cl_ (cr_ (cl_ (cr_ (cr_ (cr_ (cr_ h)))))))))))) (hs 44 (by decide)))
  | 97, hj => cases hj; exact vk_R.of (A := args) (ht0 _ q2694) (va_eqR (cr_ (cr_ (cl_ (cr_ (cr_ (cl_ (cr_ (cl_ (cr_ (cr_ (cr_ (cr_ h)))))))))))) (hs 45 (by decide)))
  | 98, hj => cases hj; exact vk_R.of (A := args) (ht0 _ q2695) (va_eqR (cl_ (cr_ (cr_ (cl_ (cl_ (cr_ (cr_ (cl_ (cr_ (cr_ (cr_ (cr_ h)))))))))))) (hs 51 (by decide)))
  | 99, hj => cases hj; exact vk_R.of (A := args) (ht0 _ q2696) (va_eqR (cr_ (cr_ (cl_ (cl_ (cr_ (cr_ (cr_ (cl_ (cr_ (cr_ (cr_ (cr_ h)))))))))))) (hs 52 (by decide)))
  | 100, hj => cases hj; exact vk_R.of (A := args) (ht0 _ q2704) (va_eqR (cl_ (cr_ (cr_ (cr_ (cr_ (cr_ (cr_ (cl_ (cr_ (cr_ (cr_ (cr_ h)))))))))))) (hs 46 (by decide)))
  | 101, hj => cases hj; exact vk_R.of (A := args) (ht0 _ q2705) (va_eqR (cl_ (cr_ (cl_ (cr_ (cl_ (cl_ (cl_ (cr_ (cr_ (cr_ (cr_ (cr_ h)))))))))))) (hs 47 (by decide)))
  | 102, hj => cases hj; exact vk_R.of (A := args) (ht0 _ q2706) (va_eqR (cr_ (cr_ (cr_ (cl_ (cr_ (cl_ (cl_ (cr_ (cr_ (cr_ (cr_ (cr_ h)))))))))))) (hs 48 (by decide)))
  | 103, hj => cases hj; exact vk_R.of (A := args) (ht0 _ q2707) (va_eqR (cl_ (cr_ (cr_ (cl_ (cl_ (cr_ (cl_ (cr_ (cr_ (cr_ (cr_ (cr_ h)))))))))))) (hs 49 (by decide)))
  | 104, hj => cases hj; exact vk_R.of (A := args) (ht0 _ q2708) (va_eqR (cr_ (cr_ (cr_ (cl_ (cr_ (cr_ (cl_ (cr_ (cr_ (cr_ (cr_ (cr_ h)))))))))))) (hs 50 (by decide)))
  | 105, hj => cases hj; exact vk_R.of (A := args) (ht0 _ q2709) (va_eqR (cr_ (cr_ (cr_ (cl_ (cl_ (cl_ (cr_ (cr_ (cr_ (cr_ (cr_ (cr_ h)))))))))))) (hs 53 (by decide)))
  | 106, hj => cases hj; exact vk_R.of (A := args) (ht0 _ q2710) (va_eqR (cl_ (cr_ (cr_ (cl_ (cr_ (cl_ (cr_ (cr_ (cr_ (cr_ (cr_ (cr_ h)))))))))))) (hs 54 (by decide)))
  | 107, hj => cases hj; exact vk_R.of (A := args) (ht0 _ q2711) (va_eqR (cl_ (cr_ (cl_ (cl_ (cl_ (cr_ (cr_ (cr_ (cr_ (cr_ (cr_ (cr_ h)))))))))))) (hs 21 (by decide)))
  | 108, hj => cases hj; exact vk_R.of (A := args) (ht0 _ q2713) (va_eqR (cl_ (cr_ (cr_ (cr_ (cl_ (cr_ (cr_ (cr_ (cr_ (cr_ (cr_ (cr_ h)))))))))))) (hs 22 (by decide)))
  | 109, hj => cases hj; exact vk_R.of (A := args) (ht0 _ q2714) (va_eqR (cr_ (cr_ (cl_ (cr_ (cr_ (cr_ (cr_ (cr_ (cr_ (cr_ (cr_ (cr_ h)))))))))))) (hs 23 (by decide)))
  | j + 110, hj => exact absurd hj (by rw [List.getElem?_eq_none]; exact fun h => (by cases h); exact Nat.le_add_left _ _)
