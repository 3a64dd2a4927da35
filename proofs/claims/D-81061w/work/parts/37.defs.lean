set_option maxRecDepth 100000
def fJ3_rotateRight (a1 a2 : Int) : Int :=
  (bOr (bUshr a1 a2) (bShl a1 (w32 (-a2))))
noncomputable def fJ4_fill_5f (a1 n1 a2 v3 : Int) (s : Dt × Int) : Option ((Dt × Int) ⊕ Dt) := match s with
  | (d, v2) => (if v3 ≤ v2 then up (some d) else ck (0 ≤ v2 ∧ v2 < n1) <| sd d a1 v2 (a2 % 2) fun d3 => lv (w32 (v2 + 1)) fun x4 => some (Sum.inl (d3, x4)))
noncomputable def fJ4_fill_5 (d : Dt) (a1 n1 a2 v2 v3 : Int) : Option Dt := loop (fJ4_fill_5f a1 n1 a2 v3) (d, v2)
noncomputable def fJ4_fill (d : Dt) (a1 n1 a2 : Int) : Option Dt :=
  fJ4_fill_5 d a1 n1 a2 0 n1
noncomputable def fJ4_fill_2_5f (a1 n1 a2 v3 : Int) (s : Dt × Int) : Option ((Dt × Int) ⊕ Dt) := match s with
  | (d, v2) => (if v3 ≤ v2 then up (some d) else ck (0 ≤ v2 ∧ v2 < n1) <| sd d a1 v2 a2 fun d3 => lv (w32 (v2 + 1)) fun x4 => some (Sum.inl (d3, x4)))
noncomputable def fJ4_fill_2_5 (d : Dt) (a1 n1 a2 v2 v3 : Int) : Option Dt := loop (fJ4_fill_2_5f a1 n1 a2 v3) (d, v2)
noncomputable def fJ4_fill_2 (d : Dt) (a1 n1 a2 : Int) : Option Dt :=
  fJ4_fill_2_5 d a1 n1 a2 0 n1
noncomputable def fJ4_fill_3_6f (a1 n1 a2 v4 : Int) (s : Dt × Int) : Option ((Dt × Int) ⊕ Dt) := match s with
  | (d, v3) => (if v4 ≤ v3 then up (some d) else ck (0 ≤ v3 ∧ v3 < n1) <| sd d a1 v3 a2 fun d3 => lv (w32 (v3 + 1)) fun x4 => some (Sum.inl (d3, x4)))
noncomputable def fJ4_fill_3_6 (d : Dt) (a1 n1 a2 v3 v4 : Int) : Option Dt := loop (fJ4_fill_3_6f a1 n1 a2 v4) (d, v3)
noncomputable def fJ4_fill_3 (d : Dt) (a1 n1 a2 : Int) : Option Dt :=
  fJ4_fill_3_6 d a1 n1 a2 0 n1
def fJ9_min (a1 a2 : Int) : Int :=
  (if a2 < a1 then a2 else a1)
noncomputable def fJ9_floorMod (a1 a2 : Int) : Option Int :=
  ck (a2 ≠ 0) <| lv (Int.tmod a1 a2) fun x2 => (if 0 ≤ (bXor a1 a2) then some x2 else (if x2 = 0 then some x2 else some (w32 (x2 + a2))))
def fJ9_max (a1 a2 : Int) : Int :=
  (if a1 < a2 then a2 else a1)
def fJ9_max_2 (a1 a2 : Int) : Int :=
  (if (jCmp a1 a2) < 0 then a2 else a1)
def fJ9_min_2 (a1 a2 : Int) : Int :=
  (if 0 < (jCmp a1 a2) then a2 else a1)
noncomputable def fJ9_floorDiv (a1 a2 : Int) : Option Int :=
  ck (a2 ≠ 0) <| lv (w64 (Int.tdiv a1 a2)) fun x2 => (if 0 ≤ (jCmp (jXor a1 a2) 0) then some x2 else (if (jCmp (w64 (x2 * a2)) a1) = 0 then some x2 else some (w64 (x2 - 1))))
noncomputable def fX0_feed_72 (d : Dt) (a1 a2 a3 a4 a5 v6 s0 : Int) : Option ((Dt × Int) ⊕ (Dt × Int)) :=
  lv (d 1 1) fun x7 => ck (0 ≤ x7 ∧ x7 < 4000) <| sd d 2 x7 (w8 (w8 (bShr s0 (w32 (24 - (w32 (8 * (Int.tmod v6 4)))))))) fun d9 => sd d9 1 1 (w32 ((d9 1 1) + 1)) fun d10 => lv (w32 (v6 + 1)) fun x11 => some (Sum.inl (d10, x11))
noncomputable def fX0_feed_19f (a1 a2 a3 a4 a5 : Int) (s : Dt × Int) : Option ((Dt × Int) ⊕ (Dt × Int)) := match s with
  | (d, v6) => (if 20 ≤ v6 then up (some (d, (d 1 1))) else (if 4 ≤ v6 then (if 8 ≤ v6 then (if 12 ≤ v6 then (if 16 ≤ v6 then fX0_feed_72 d a1 a2 a3 a4 a5 v6 a5 else fX0_feed_72 d a1 a2 a3 a4 a5 v6 a4) else fX0_feed_72 d a1 a2 a3 a4 a5 v6 a3) else fX0_feed_72 d a1 a2 a3 a4 a5 v6 a2) else fX0_feed_72 d a1 a2 a3 a4 a5 v6 a1))
noncomputable def fX0_feed_19 (d : Dt) (a1 a2 a3 a4 a5 v6 : Int) : Option (Dt × Int) := loop (fX0_feed_19f a1 a2 a3 a4 a5) (d, v6)
noncomputable def fX0_feed (d : Dt) (a1 a2 a3 a4 a5 : Int) : Option (Dt × Int) :=
  (if (w32 ((d 1 1) + 20)) ≤ 4000 then fX0_feed_19 d a1 a2 a3 a4 a5 0 else some (d, (-5)))
noncomputable def fX11_feed_72 (d : Dt) (a1 a2 a3 a4 a5 v6 s0 : Int) : Option ((Dt × Int) ⊕ (Dt × Int)) :=
  lv (w32 ((d 1545 1) + v6)) fun x8 => ck (0 ≤ x8 ∧ x8 < 4000) <| sd d 1546 x8 (w8 (w8 (bShr s0 (w32 (24 - (w32 (8 * (Int.tmod v6 4)))))))) fun d10 => lv (w32 (v6 + 1)) fun x11 => some (Sum.inl (d10, x11))
noncomputable def fX11_feed_19f (a1 a2 a3 a4 a5 : Int) (s : Dt × Int) : Option ((Dt × Int) ⊕ (Dt × Int)) := match s with
  | (d, v6) => (if 20 ≤ v6 then up (sd d 1545 1 (w32 ((d 1545 1) + 20)) fun d3 => some (d3, (d3 1545 1))) else (if 4 ≤ v6 then (if 8 ≤ v6 then (if 12 ≤ v6 then (if 16 ≤ v6 then fX11_feed_72 d a1 a2 a3 a4 a5 v6 a5 else fX11_feed_72 d a1 a2 a3 a4 a5 v6 a4) else fX11_feed_72 d a1 a2 a3 a4 a5 v6 a3) else fX11_feed_72 d a1 a2 a3 a4 a5 v6 a2) else fX11_feed_72 d a1 a2 a3 a4 a5 v6 a1))
noncomputable def fX11_feed_19 (d : Dt) (a1 a2 a3 a4 a5 v6 : Int) : Option (Dt × Int) := loop (fX11_feed_19f a1 a2 a3 a4 a5) (d, v6)
noncomputable def fX11_feed (d : Dt) (a1 a2 a3 a4 a5 : Int) : Option (Dt × Int) :=
  (if (w32 ((d 1545 1) + 20)) ≤ 4000 then fX11_feed_19 d a1 a2 a3 a4 a5 0 else some (d, (-5)))
def fX0_within (a1 a2 a3 : Int) : Int :=
  (if a1 < a2 then 0 else (if a3 < a1 then 0 else 1))
noncomputable def fX0_cut (d : Dt) (a1 : Int) : Option (Dt × Int) :=
  (if (fX0_within a1 0 (d 1 1)) = 0 then some (d, (-2)) else sd d 1 1 a1 fun d2 => some (d2, a1))
def fX11_in (a1 a2 a3 : Int) : Int :=
  (if (jCmp a1 a2) < 0 then 0 else (if 0 < (jCmp a1 a3) then 0 else 1))
noncomputable def fX11_cut (d : Dt) (a1 : Int) : Option (Dt × Int) :=
  (if (fX11_in a1 0 (d 1545 1)) = 0 then some (d, (-2)) else sd d 1545 1 a1 fun d2 => some (d2, a1))
noncomputable def fX7_round_302f (s : Dt × Int) : Option ((Dt × Int) ⊕ Dt) := match s with
  | (d, v1) => (if 8 ≤ v1 then up (some d) else ck (0 ≤ v1 ∧ v1 < 8) <| sd d 56 v1 (w32 ((xB.getD (Int.toNat v1) 0) + (d 54 v1))) fun d6 => lv (w32 (v1 + 1)) fun x7 => some (Sum.inl (d6, x7)))
noncomputable def fX7_round_302 (d : Dt) (v1 : Int) : Option Dt := loop (fX7_round_302f) (d, v1)
noncomputable def fX7_round_120f (s : Dt × Int) : Option ((Dt × Int) ⊕ Dt) := match s with
  | (d, v1) => (if 64 ≤ v1 then up (fX7_round_302 d 0) else lv (d 54 4) fun x8 => lv (d 54 0) fun x9 => ck (0 ≤ v1 ∧ v1 < 64) <| lv (w32 ((w32 ((w32 ((w32 ((d 54 7) + (bXor (bXor (fJ3_rotateRight x8 6) (fJ3_rotateRight x8 11)) (fJ3_rotateRight x8 25)))) + (bXor (bAnd x8 (d 54 5)) (bAnd (bXor x8 (-1)) (d 54 6))))) + (xK.getD (Int.toNat v1) 0))) + (d 55 v1))) fun x11 => lv (w32 ((bXor (bXor (fJ3_rotateRight x9 2) (fJ3_rotateRight x9 13)) (fJ3_rotateRight x9 22)) + (bXor (bXor (bAnd x9 (d 54 1)) (bAnd x9 (d 54 2))) (bAnd (d 54 1) (d 54 2))))) fun x12 => cd d 54 0 54 1 7 fun d13 => sd d13 54 4 (w32 ((d13 54 4) + x11)) fun d14 => sd d14 54 0 (w32 (x11 + x12)) fun d15 => lv (w32 (v1 + 1)) fun x16 => some (Sum.inl (d15, x16)))
noncomputable def fX7_round_120 (d : Dt) (v1 : Int) : Option Dt := loop (fX7_round_120f) (d, v1)
noncomputable def fX7_round_3f (s : Dt × Int) : Option ((Dt × Int) ⊕ Dt) := match s with
  | (d, v1) => (if 64 ≤ v1 then up (cx d xB 0 54 0 8 fun d2 => fX7_round_120 d2 0) else lv (w32 (v1 - 15)) fun x17 => ck (0 ≤ x17 ∧ x17 < 64) <| lv (d 55 x17) fun x19 => lv (w32 (v1 - 2)) fun x20 => ck (0 ≤ x20 ∧ x20 < 64) <| lv (d 55 x20) fun x22 => lv (bXor (bXor (fJ3_rotateRight x19 7) (fJ3_rotateRight x19 18)) (bUshr x19 3)) fun x23 => lv (bXor (bXor (fJ3_rotateRight x22 17) (fJ3_rotateRight x22 19)) (bUshr x22 10)) fun x24 => lv (w32 (v1 - 16)) fun x25 => ck (0 ≤ x25 ∧ x25 < 64) <| lv (w32 (v1 - 7)) fun x27 => ck (0 ≤ x27 ∧ x27 < 64) <| ck (0 ≤ v1 ∧ v1 < 64) <| sd d 55 v1 (w32 ((w32 ((w32 ((d 55 x25) + x23)) + (d 55 x27))) + x24)) fun d30 => lv (w32 (v1 + 1)) fun x31 => some (Sum.inl (d30, x31)))
noncomputable def fX7_round_3 (d : Dt) (v1 : Int) : Option Dt := loop (fX7_round_3f) (d, v1)
noncomputable def fX7_round (d : Dt) : Option Dt :=
  fX7_round_3 d 16
noncomputable def fX7_add (d : Dt) (a1 a2 a3 a4 a5 : Int) : Option Dt :=
  cd d 56 0 55 0 8 fun d1 => sd d1 55 8 a1 fun d2 => sd d2 55 9 a2 fun d3 => sd d3 55 10 a3 fun d4 => sd d4 55 11 a4 fun d5 => sd d5 55 12 a5 fun d6 => sd d6 55 13 (-2147483648) fun d7 => sd d7 55 14 0 fun d8 => sd d8 55 15 416 fun d9 => bd (fX7_round d9) fun d10 => some d10
noncomputable def fX0_write (d : Dt) (a1 a2 a3 a4 a5 : Int) : Option Dt :=
  bd (fX7_add d a1 a2 a3 a4 a5) fun d1 => sd d1 1 12 (w32 ((d1 1 12) + 1)) fun d3 => some d3
noncomputable def fX0_day (d : Dt) (a1 : Int) : Option (Dt × Int) :=
  (if (fX0_within a1 (d 1 2) 36524) = 0 then some (d, (-2)) else sd d 1 2 a1 fun d2 => bd (fX0_write d2 0 a1 0 0 0) fun d3 => some (d3, a1))
noncomputable def fX11_lay4_3f (a1 n1 a2 a3 : Int) (s : Dt × Int) : Option ((Dt × Int) ⊕ Dt) := match s with
  | (d, v4) => (if 4 ≤ v4 then up (some d) else lv (w32 (a2 + v4)) fun x2 => ck (0 ≤ x2 ∧ x2 < n1) <| sd d a1 x2 (w8 (w8 (bShr a3 (w32 (24 - (w32 (8 * v4))))))) fun d4 => lv (w32 (v4 + 1)) fun x5 => some (Sum.inl (d4, x5)))
noncomputable def fX11_lay4_3 (d : Dt) (a1 n1 a2 a3 v4 : Int) : Option Dt := loop (fX11_lay4_3f a1 n1 a2 a3) (d, v4)
noncomputable def fX11_lay4 (d : Dt) (a1 n1 a2 a3 : Int) : Option Dt :=
  fX11_lay4_3 d a1 n1 a2 a3 0
def fX11_turn (a1 a2 : Int) : Int :=
  (bOr (bUshr a1 a2) (bShl a1 (w32 (32 - a2))))
noncomputable def fX11_digest_403f (s : Dt × Int) : Option ((Dt × Int) ⊕ Dt) := match s with
  | (d, v1) => (if 8 ≤ v1 then up (some d) else ck (0 ≤ v1 ∧ v1 < 8) <| sd d 1662 v1 (w32 ((d 1665 v1) + (d 1663 v1))) fun d6 => lv (w32 (v1 + 1)) fun x7 => some (Sum.inl (d6, x7)))
noncomputable def fX11_digest_403 (d : Dt) (v1 : Int) : Option Dt := loop (fX11_digest_403f) (d, v1)
noncomputable def fX11_digest_346f (v1 v4 v5 : Int) (s : Dt × Int) : Option ((Dt × Int) ⊕ ((Dt × Int) ⊕ Dt)) := match s with
  | (d, v6) => (if v6 ≤ 0 then up (sd d 1663 4 (w32 ((d 1663 4) + v4)) fun d14 => sd d14 1663 0 (w32 (v4 + v5)) fun d15 => lv (w32 (v1 + 1)) fun x16 => some (Sum.inl (d15, x16))) else lv (w32 (v6 - 1)) fun x17 => ck (0 ≤ x17 ∧ x17 < 8) <| ck (0 ≤ v6 ∧ v6 < 8) <| sd d 1663 v6 (d 1663 x17) fun d20 => lv (w32 (v6 + (-1))) fun x21 => some (Sum.inl (d20, x21)))
noncomputable def fX11_digest_346 (d : Dt) (v1 v4 v5 v6 : Int) : Option ((Dt × Int) ⊕ Dt) := loop (fX11_digest_346f v1 v4 v5) (d, v6)
noncomputable def fX11_digest_204f (s : Dt × Int) : Option ((Dt × Int) ⊕ Dt) := match s with
  | (d, v1) => (if 64 ≤ v1 then up (fX11_digest_403 d 0) else lv (d 1663 0) fun x8 => lv (d 1663 4) fun x9 => ck (0 ≤ v1 ∧ v1 < 64) <| lv (w32 ((w32 ((w32 ((w32 ((d 1663 7) + (bXor (bXor (fX11_turn x9 6) (fX11_turn x9 11)) (fX11_turn x9 25)))) + (bXor (bAnd x9 (d 1663 5)) (bAnd (bXor x9 (-1)) (d 1663 6))))) + (d 1664 v1))) + (d 1661 v1))) fun x11 => lv (w32 ((bXor (bXor (fX11_turn x8 2) (fX11_turn x8 13)) (fX11_turn x8 22)) + (bXor (bXor (bAnd x8 (d 1663 1)) (bAnd x8 (d 1663 2))) (bAnd (d 1663 1) (d 1663 2))))) fun x12 => fX11_digest_346 d v1 x11 x12 7)
noncomputable def fX11_digest_204 (d : Dt) (v1 : Int) : Option Dt := loop (fX11_digest_204f) (d, v1)
noncomputable def fX11_digest_178f (s : Dt × Int) : Option ((Dt × Int) ⊕ Dt) := match s with
  | (d, v1) => (if 8 ≤ v1 then up (fX11_digest_204 d 0) else ck (0 ≤ v1 ∧ v1 < 8) <| sd d 1663 v1 (d 1665 v1) fun d23 => lv (w32 (v1 + 1)) fun x24 => some (Sum.inl (d23, x24)))
noncomputable def fX11_digest_178 (d : Dt) (v1 : Int) : Option Dt := loop (fX11_digest_178f) (d, v1)
noncomputable def fX11_digest_2f (s : Dt × Int) : Option ((Dt × Int) ⊕ Dt) := match s with
  | (d, v1) => (if 64 ≤ v1 then up (fX11_digest_178 d 0) else (if 16 ≤ v1 then lv (w32 (v1 - 15)) fun x26 => ck (0 ≤ x26 ∧ x26 < 64) <| lv (d 1661 x26) fun x28 => lv (w32 (v1 - 2)) fun x29 => ck (0 ≤ x29 ∧ x29 < 64) <| lv (d 1661 x29) fun x31 => lv (w32 (v1 - 16)) fun x32 => ck (0 ≤ x32 ∧ x32 < 64) <| lv (w32 (v1 - 7)) fun x34 => ck (0 ≤ x34 ∧ x34 < 64) <| ck (0 ≤ v1 ∧ v1 < 64) <| sd d 1661 v1 (w32 ((w32 ((w32 ((d 1661 x32) + (bXor (bXor (fX11_turn x28 7) (fX11_turn x28 18)) (bUshr x28 3)))) + (d 1661 x34))) + (bXor (bXor (fX11_turn x31 17) (fX11_turn x31 19)) (bUshr x31 10)))) fun d37 => lv (w32 (v1 + 1)) fun x38 => some (Sum.inl (d37, x38)) else lv (w32 (4 * v1)) fun x39 => ck (0 ≤ x39 ∧ x39 < 64) <| lv (w32 ((w32 (4 * v1)) + 1)) fun x41 => ck (0 ≤ x41 ∧ x41 < 64) <| lv (w32 ((w32 (4 * v1)) + 2)) fun x43 => ck (0 ≤ x43 ∧ x43 < 64) <| lv (w32 ((w32 (4 * v1)) + 3)) fun x45 => ck (0 ≤ x45 ∧ x45 < 64) <| ck (0 ≤ v1 ∧ v1 < 64) <| sd d 1661 v1 (bOr (bOr (bOr (bShl (bAnd (d 1660 x39) 255) 24) (bShl (bAnd (d 1660 x41) 255) 16)) (bShl (bAnd (d 1660 x43) 255) 8)) (bAnd (d 1660 x45) 255)) fun d48 => lv (w32 (v1 + 1)) fun x49 => some (Sum.inl (d48, x49))))
noncomputable def fX11_digest_2 (d : Dt) (v1 : Int) : Option Dt := loop (fX11_digest_2f) (d, v1)
noncomputable def fX11_digest (d : Dt) : Option Dt :=
  fX11_digest_2 d 0
noncomputable def fX11_write_127f (a1 a2 a3 a4 a5 : Int) (s : Dt × Int) : Option ((Dt × Int) ⊕ Dt) := match s with
  | (d, v6) => (if 8 ≤ v6 then up (sd d 1545 165 (w32 ((d 1545 165) + 1)) fun d18 => some d18) else ck (0 ≤ v6 ∧ v6 < 8) <| bd (fX11_lay4 d 1659 32 (w32 (4 * v6)) (d 1662 v6)) fun d20 => lv (w32 (v6 + 1)) fun x22 => some (Sum.inl (d20, x22)))
noncomputable def fX11_write_127 (d : Dt) (a1 a2 a3 a4 a5 v6 : Int) : Option Dt := loop (fX11_write_127f a1 a2 a3 a4 a5) (d, v6)
noncomputable def fX11_write_34 (d : Dt) (a1 a2 a3 a4 a5 v6 s1 s2 : Int) : Option ((Dt × Int) ⊕ Dt) :=
  ck (0 ≤ s1 ∧ s1 < 64) <| sd d 1660 s1 (w8 s2) fun d25 => lv (w32 (v6 + 1)) fun x26 => some (Sum.inl (d25, x26))
noncomputable def fX11_write_3f (a1 a2 a3 a4 a5 : Int) (s : Dt × Int) : Option ((Dt × Int) ⊕ Dt) := match s with
  | (d, v6) => (if 64 ≤ v6 then up (bd (fX11_lay4 d 1660 64 32 a1) fun d2 => bd (fX11_lay4 d2 1660 64 36 a2) fun d4 => bd (fX11_lay4 d4 1660 64 40 a3) fun d6 => bd (fX11_lay4 d6 1660 64 44 a4) fun d8 => bd (fX11_lay4 d8 1660 64 48 a5) fun d10 => sd d10 1660 52 (w8 (-128)) fun d12 => bd (fX11_lay4 d12 1660 64 60 416) fun d13 => bd (fX11_digest d13) fun d15 => fX11_write_127 d15 a1 a2 a3 a4 a5 0) else (if 32 ≤ v6 then fX11_write_34 d a1 a2 a3 a4 a5 v6 v6 0 else ck (0 ≤ v6 ∧ v6 < 32) <| fX11_write_34 d a1 a2 a3 a4 a5 v6 v6 (d 1659 v6)))
noncomputable def fX11_write_3 (d : Dt) (a1 a2 a3 a4 a5 v6 : Int) : Option Dt := loop (fX11_write_3f a1 a2 a3 a4 a5) (d, v6)
noncomputable def fX11_write (d : Dt) (a1 a2 a3 a4 a5 : Int) : Option Dt :=
  fX11_write_3 d a1 a2 a3 a4 a5 0
noncomputable def fX11_day (d : Dt) (a1 : Int) : Option (Dt × Int) :=
  (if (fX11_in a1 (d 1545 2) 36524) = 0 then some (d, (-2)) else sd d 1545 2 a1 fun d2 => bd (fX11_write d2 0 a1 0 0 0) fun d3 => some (d3, a1))
noncomputable def fX1_add (d : Dt) (a1 : Int) : Option (Dt × Int) :=
  lv (d 3 1) fun x1 => ck (0 ≤ x1 ∧ x1 < 24) <| sd d 4 x1 a1 fun d3 => sd d3 3 1 (w32 ((d3 3 1) + 1)) fun d4 => some (d4, (w32 ((d4 3 1) - 1)))
noncomputable def fX0_area (d : Dt) (a1 : Int) : Option (Dt × Int) :=
  (if (fX0_within a1 0 2) = 0 then some (d, (-2)) else (if (d 3 1) = 24 then some (d, (-5)) else bd (fX0_write d 1 a1 0 0 0) fun d3 => b2 (fX1_add d3 a1) fun d5 x7 => some (d5, x7)))
noncomputable def fX11_area (d : Dt) (a1 : Int) : Option (Dt × Int) :=
  (if (fX11_in a1 0 2) = 0 then some (d, (-2)) else (if (d 1545 3) = 24 then some (d, (-5)) else lv (d 1545 3) fun x3 => ck (0 ≤ x3 ∧ x3 < 24) <| sd d 1547 x3 a1 fun d5 => bd (fX11_write d5 1 a1 0 0 0) fun d6 => lv (d6 1545 3) fun x8 => sd d6 1545 3 (w32 (x8 + 1)) fun d9 => some (d9, x8)))
def fX1_has (d : Dt) (a1 : Int) : Int :=
  (fX0_within a1 0 (w32 ((d 3 1) - 1)))
def fX12_isDay (a1 : Int) : Int :=
  (fX0_within a1 (-36524) 36524)
noncomputable def fX1_border (d : Dt) (a1 a2 a3 a4 : Int) : Option (Dt × Int) :=
  lv (d 3 6) fun x1 => ck (0 ≤ x1 ∧ x1 < 60) <| sd d 5 x1 a1 fun d3 => lv (d3 3 6) fun x4 => ck (0 ≤ x4 ∧ x4 < 60) <| sd d3 6 x4 a2 fun d6 => lv (d6 3 6) fun x7 => ck (0 ≤ x7 ∧ x7 < 60) <| sd d6 7 x7 a3 fun d9 => lv (d9 3 6) fun x10 => ck (0 ≤ x10 ∧ x10 < 60) <| sd d9 8 x10 a4 fun d12 => sd d12 3 6 (w32 ((d12 3 6) + 1)) fun d13 => some (d13, (d13 3 6))
noncomputable def fX0_border (d : Dt) (a1 a2 a3 a4 : Int) : Option (Dt × Int) :=
  (if (fX1_has d a1) = 0 then some (d, (-1)) else (if (fX0_within a2 0 999) = 0 then some (d, (-2)) else (if (fX0_within a3 a2 999) = 0 then some (d, (-2)) else (if (fX12_isDay a4) = 0 then some (d, (-2)) else (if (d 3 6) = 60 then some (d, (-5)) else bd (fX0_write d 2 a1 a2 a3 a4) fun d6 => b2 (fX1_border d6 a1 a2 a3 a4) fun d8 x10 => some (d8, x10))))))
def fX11_isDay (a1 : Int) : Int :=
  (fX11_in a1 (-36524) 36524)
noncomputable def fX11_border (d : Dt) (a1 a2 a3 a4 : Int) : Option (Dt × Int) :=
  (if (fX11_in a1 0 (w32 ((d 1545 3) - 1))) = 0 then some (d, (-1)) else (if (fX11_in a2 0 999) = 0 then some (d, (-2)) else (if (fX11_in a3 a2 999) = 0 then some (d, (-2)) else (if (fX11_isDay a4) = 0 then some (d, (-2)) else (if (d 1545 5) = 60 then some (d, (-5)) else lv (d 1545 5) fun x6 => ck (0 ≤ x6 ∧ x6 < 60) <| sd d 1548 x6 a1 fun d8 => lv (d8 1545 5) fun x9 => ck (0 ≤ x9 ∧ x9 < 60) <| sd d8 1549 x9 a2 fun d11 => lv (d11 1545 5) fun x12 => ck (0 ≤ x12 ∧ x12 < 60) <| sd d11 1550 x12 a3 fun d14 => lv (d14 1545 5) fun x15 => ck (0 ≤ x15 ∧ x15 < 60) <| sd d14 1551 x15 a4 fun d17 => sd d17 1545 5 (w32 ((d17 1545 5) + 1)) fun d18 => bd (fX11_write d18 2 a1 a2 a3 a4) fun d19 => some (d19, (d19 1545 5)))))))
noncomputable def fX1_areaOf_8f (d : Dt) (a1 a2 a3 : Int) (s : Int) : Option ((Int) ⊕ Int) := (fun v4 => (if v4 < 0 then up (some (-1)) else ck (0 ≤ v4 ∧ v4 < 60) <| lv (d 5 v4) fun x4 => ck (0 ≤ x4 ∧ x4 < 24) <| (if (d 4 x4) = a1 then (if (fX0_within a2 (d 6 v4) (d 7 v4)) = 0 then lv (w32 (v4 + (-1))) fun x9 => some (Sum.inl x9) else (if a3 < (d 8 v4) then lv (w32 (v4 + (-1))) fun x11 => some (Sum.inl x11) else up (some (d 5 v4)))) else lv (w32 (v4 + (-1))) fun x7 => some (Sum.inl x7)))) s
noncomputable def fX1_areaOf_8 (d : Dt) (a1 a2 a3 v4 : Int) : Option Int := loop (fX1_areaOf_8f d a1 a2 a3) v4
noncomputable def fX1_areaOf (d : Dt) (a1 a2 a3 : Int) : Option Int :=
  lv (w32 ((d 3 6) - 1)) fun x1 => fX1_areaOf_8 d a1 a2 a3 x1
noncomputable def fX0_areaOf (d : Dt) (a1 a2 a3 : Int) : Option Int :=
  (if (fX0_within a1 0 2) = 0 then some (-2) else (if (fX0_within a2 0 999) = 0 then some (-2) else (if (fX12_isDay a3) = 0 then some (-2) else b1 (fX1_areaOf d a1 a2 a3) fun x4 => some x4)))
noncomputable def fX11_lies_71 (d : Dt) (a1 a2 a3 v4 v5 s0 : Int) : Option ((Int × Int) ⊕ Int) :=
  (if s0 = 0 then lv (w32 (v5 + 1)) fun x7 => some (Sum.inl (v4, x7)) else ck (0 ≤ v5 ∧ v5 < 60) <| lv (d 1548 v5) fun x9 => lv (w32 (v5 + 1)) fun x10 => some (Sum.inl (x9, x10)))
noncomputable def fX11_lies_6f (d : Dt) (a1 a2 a3 : Int) (s : Int × Int) : Option ((Int × Int) ⊕ Int) := match s with
  | (v4, v5) => (if (d 1545 5) ≤ v5 then up (some v4) else ck (0 ≤ v5 ∧ v5 < 60) <| lv (d 1548 v5) fun x3 => ck (0 ≤ x3 ∧ x3 < 24) <| (if (d 1547 x3) = a1 then (if (fX11_in a2 (d 1549 v5) (d 1550 v5)) = 0 then fX11_lies_71 d a1 a2 a3 v4 v5 0 else (if a3 < (d 1551 v5) then fX11_lies_71 d a1 a2 a3 v4 v5 0 else fX11_lies_71 d a1 a2 a3 v4 v5 1)) else fX11_lies_71 d a1 a2 a3 v4 v5 0))
noncomputable def fX11_lies_6 (d : Dt) (a1 a2 a3 v4 v5 : Int) : Option Int := loop (fX11_lies_6f d a1 a2 a3) (v4, v5)
noncomputable def fX11_lies (d : Dt) (a1 a2 a3 : Int) : Option Int :=
  fX11_lies_6 d a1 a2 a3 (-1) 0
noncomputable def fX11_areaOf (d : Dt) (a1 a2 a3 : Int) : Option Int :=
  (if (fX11_in a1 0 2) = 0 then some (-2) else (if (fX11_in a2 0 999) = 0 then some (-2) else (if (fX11_isDay a3) = 0 then some (-2) else b1 (fX11_lies d a1 a2 a3) fun x4 => some x4)))
def fX12_isLong (a1 : Int) : Int :=
  (if (Int.tmod a1 4) = 0 then (if a1 = 1900 then 0 else 1) else 0)
def fX12_lengthOf (a1 a2 : Int) : Int :=
  (if a2 = 2 then (if (fX12_isLong a1) = 0 then 28 else 29) else (if a2 = 4 then 30 else (if a2 = 6 then 30 else (if a2 = 9 then 30 else (if a2 = 11 then 30 else 31)))))
def fX12_is (a1 a2 a3 a4 : Int) : Int :=
  (if (fX0_within a1 a4 2099) = 0 then 0 else (if (fX0_within a2 1 12) = 0 then 0 else (if (fX0_within a3 1 (fX12_lengthOf a1 a2)) = 0 then 0 else 1)))
noncomputable def fX12_of_57 (a1 a2 a3 s0 s1 : Int) : Option Int :=
  some (w32 ((w32 (s0 + s1)) + (-36524)))
noncomputable def fX12_of_7f (a1 a2 a3 : Int) (s : Int × Int) : Option ((Int × Int) ⊕ Int) := match s with
  | (v3, v4) => (if a2 ≤ v4 then up ((if a1 ≤ 1900 then fX12_of_57 a1 a2 a3 (w32 (v3 + (w32 (365 * (w32 (a1 - 1900)))))) 0 else fX12_of_57 a1 a2 a3 (w32 (v3 + (w32 (365 * (w32 (a1 - 1900)))))) (w32 (Int.tdiv (w32 (a1 - 1901)) 4)))) else lv (w32 (v3 + (fX12_lengthOf a1 v4))) fun x4 => lv (w32 (v4 + 1)) fun x5 => some (Sum.inl (x4, x5)))
noncomputable def fX12_of_7 (a1 a2 a3 v3 v4 : Int) : Option Int := loop (fX12_of_7f a1 a2 a3) (v3, v4)
noncomputable def fX12_of (a1 a2 a3 : Int) : Option Int :=
  lv (w32 (a3 - 1)) fun x1 => fX12_of_7 a1 a2 a3 x1 1
noncomputable def fX0_person (d m : Dt) (a1 a2 a3 : Int) : Option (Dt × Dt × Int) :=
  (if (fX12_is a1 a2 a3 1900) = 0 then some (d, m, (-2)) else (if (d 1 5) = 60 then some (d, m, (-5)) else lv (m 0 0) fun o3 => b1 (fX12_of a1 a2 a3) fun x6 => lm (nwX13 o3 a1 a2 a3 x6 d) fun d4 => lm (nt_X13 m) fun m5 => lv (d 1 5) fun x8 => ck (0 ≤ x8 ∧ x8 < 60) <| sd d4 9 x8 o3 fun d10 => sd d10 1 5 (w32 ((d10 1 5) + 1)) fun d11 => bd (fX0_write d11 3 a1 a2 a3 0) fun d12 => some (d12, m5, (w32 ((d12 1 5) - 1)))))
def fX11_yearDays_19 (a1 : Int) : Int :=
  365
def fX11_yearDays (a1 : Int) : Int :=
  (if (Int.tmod a1 4) = 0 then (if a1 = 1900 then fX11_yearDays_19 a1 else 366) else fX11_yearDays_19 a1)
def fX11_monthDays (a1 a2 : Int) : Int :=
  (if a2 = 2 then (w32 ((fX11_yearDays a1) - 337)) else (if a2 = 4 then 30 else (if a2 = 6 then 30 else (if a2 = 9 then 30 else (if a2 = 11 then 30 else 31)))))
noncomputable def fX11_dayOf_41 (a1 a2 a3 : Int) : Option Int :=
  some (-2147483648)
noncomputable def fX11_dayOf_101f (a1 a2 a3 : Int) (s : Int × Int) : Option ((Int × Int) ⊕ Int) := match s with
  | (v3, v4) => (if a2 ≤ v4 then up (some v3) else lv (w32 (v3 + (fX11_monthDays a1 v4))) fun x8 => lv (w32 (v4 + 1)) fun x9 => some (Sum.inl (x8, x9)))
noncomputable def fX11_dayOf_101 (a1 a2 a3 v3 v4 : Int) : Option Int := loop (fX11_dayOf_101f a1 a2 a3) (v3, v4)
noncomputable def fX11_dayOf_76f (a1 a2 a3 : Int) (s : Int × Int) : Option ((Int × Int) ⊕ Int) := match s with
  | (v3, v4) => (if 2000 ≤ v4 then up (fX11_dayOf_101 a1 a2 a3 v3 1) else lv (w32 (v3 - (fX11_yearDays v4))) fun x10 => lv (w32 (v4 + 1)) fun x11 => some (Sum.inl (x10, x11)))
noncomputable def fX11_dayOf_76 (a1 a2 a3 v3 v4 : Int) : Option Int := loop (fX11_dayOf_76f a1 a2 a3) (v3, v4)
noncomputable def fX11_dayOf_53f (a1 a2 a3 : Int) (s : Int × Int) : Option ((Int × Int) ⊕ Int) := match s with
  | (v3, v4) => (if a1 ≤ v4 then up (fX11_dayOf_76 a1 a2 a3 v3 a1) else lv (w32 (v3 + (fX11_yearDays v4))) fun x12 => lv (w32 (v4 + 1)) fun x13 => some (Sum.inl (x12, x13)))
noncomputable def fX11_dayOf_53 (a1 a2 a3 v3 v4 : Int) : Option Int := loop (fX11_dayOf_53f a1 a2 a3) (v3, v4)
noncomputable def fX11_dayOf (a1 a2 a3 : Int) : Option Int :=
  (if (fX11_in a1 1900 2099) = 0 then fX11_dayOf_41 a1 a2 a3 else (if (fX11_in a2 1 12) = 0 then fX11_dayOf_41 a1 a2 a3 else (if (fX11_in a3 1 (fX11_monthDays a1 a2)) = 0 then fX11_dayOf_41 a1 a2 a3 else lv (w32 (a3 - 1)) fun x4 => fX11_dayOf_53 a1 a2 a3 x4 2000)))
noncomputable def fX11_person (d : Dt) (a1 a2 a3 : Int) : Option (Dt × Int) :=
  b1 (fX11_dayOf a1 a2 a3) fun x1 => (if x1 = (-2147483648) then some (d, (-2)) else (if (d 1545 10) = 60 then some (d, (-5)) else lv (d 1545 10) fun x5 => ck (0 ≤ x5 ∧ x5 < 60) <| sd d 1552 x5 x1 fun d7 => lv (d7 1545 10) fun x8 => ck (0 ≤ x8 ∧ x8 < 60) <| sd d7 1553 x8 a1 fun d10 => lv (d10 1545 10) fun x11 => ck (0 ≤ x11 ∧ x11 < 60) <| sd d10 1554 x11 a2 fun d13 => lv (d13 1545 10) fun x14 => ck (0 ≤ x14 ∧ x14 < 60) <| sd d13 1555 x14 a3 fun d16 => lv (d16 1545 10) fun x17 => ck (0 ≤ x17 ∧ x17 < 60) <| sd d16 1556 x17 (-2147483648) fun d19 => bd (fX11_write d19 3 a1 a2 a3 0) fun d20 => lv (d20 1545 10) fun x22 => sd d20 1545 10 (w32 (x22 + 1)) fun d23 => some (d23, x22)))
def fX0_isPerson (d : Dt) (a1 : Int) : Int :=
  (fX0_within a1 0 (w32 ((d 1 5) - 1)))
noncomputable def fX13_move_55 (d : Dt) (o a1 a2 v3 : Int) : Option (Dt × Int) :=
  ck (0 ≤ v3 ∧ v3 < 10) <| sd d (o + 1) v3 a1 fun d4 => sd d4 (o + 2) v3 a2 fun d5 => sd d5 o 8 (w32 ((d5 o 8) + 1)) fun d6 => some (d6, (d6 o 8))
noncomputable def fX13_move_5f (o a1 a2 : Int) (s : Dt × Int) : Option ((Dt × Int) ⊕ (Dt × Int)) := match s with
  | (d, v3) => (if v3 ≤ 0 then up (fX13_move_55 d o a1 a2 v3) else lv (w32 (v3 - 1)) fun x7 => ck (0 ≤ x7 ∧ x7 < 10) <| (if (d (o + 1) x7) ≤ a1 then up (fX13_move_55 d o a1 a2 v3) else lv (w32 (v3 - 1)) fun x10 => ck (0 ≤ x10 ∧ x10 < 10) <| ck (0 ≤ v3 ∧ v3 < 10) <| sd d (o + 1) v3 (d (o + 1) x10) fun d13 => lv (w32 (v3 - 1)) fun x14 => ck (0 ≤ x14 ∧ x14 < 10) <| sd d13 (o + 2) v3 (d13 (o + 2) x14) fun d16 => lv (w32 (v3 + (-1))) fun x17 => some (Sum.inl (d16, x17))))
noncomputable def fX13_move_5 (d : Dt) (o a1 a2 v3 : Int) : Option (Dt × Int) := loop (fX13_move_5f o a1 a2) (d, v3)
noncomputable def fX13_move (d : Dt) (o a1 a2 : Int) : Option (Dt × Int) :=
  lv (d o 8) fun x1 => fX13_move_5 d o a1 a2 x1
noncomputable def fX0_move (d : Dt) (a1 a2 a3 : Int) : Option (Dt × Int) :=
  (if (fX0_isPerson d a1) = 0 then some (d, (-1)) else (if (fX12_isDay a2) = 0 then some (d, (-2)) else (if (fX0_within a3 (-1) 999) = 0 then some (d, (-2)) else ck (0 ≤ a1 ∧ a1 < 60) <| lv (d 9 a1) fun x5 => ck (x5 ≠ 0) <| (if (d x5 8) = 10 then some (d, (-5)) else bd (fX0_write d 4 a1 a2 a3 0) fun d9 => lv (d9 9 a1) fun x11 => ck (x11 ≠ 0) <| b2 (fX13_move d9 x11 a2 a3) fun d14 x16 => some (d14, x16)))))
def fX11_isPerson (d : Dt) (a1 : Int) : Int :=
  (fX11_in a1 0 (w32 ((d 1545 10) - 1)))
noncomputable def fX11_move (d : Dt) (a1 a2 a3 : Int) : Option (Dt × Int) :=
  (if (fX11_isPerson d a1) = 0 then some (d, (-1)) else (if (fX11_isDay a2) = 0 then some (d, (-2)) else (if (fX11_in a3 (-1) 999) = 0 then some (d, (-2)) else ck (0 ≤ a1 ∧ a1 < 60) <| (if (d 1557 a1) = 10 then some (d, (-5)) else lv (w32 ((w32 (10 * a1)) + (d 1557 a1))) fun x6 => ck (0 ≤ x6 ∧ x6 < 600) <| sd d 1558 x6 a2 fun d8 => lv (w32 ((w32 (10 * a1)) + (d8 1557 a1))) fun x9 => ck (0 ≤ x9 ∧ x9 < 600) <| sd d8 1559 x9 a3 fun d11 => sd d11 1557 a1 (w32 ((d11 1557 a1) + 1)) fun d12 => bd (fX11_write d12 4 a1 a2 a3 0) fun d13 => some (d13, (d13 1557 a1))))))
noncomputable def fX13_fact (d : Dt) (o a1 a2 a3 a4 : Int) : Option (Dt × Int) :=
  lv (d o 13) fun x1 => ck (0 ≤ x1 ∧ x1 < 12) <| sd d (o + 3) x1 a1 fun d3 => lv (d3 o 13) fun x4 => ck (0 ≤ x4 ∧ x4 < 12) <| sd d3 (o + 4) x4 a2 fun d6 => lv (d6 o 13) fun x7 => ck (0 ≤ x7 ∧ x7 < 12) <| sd d6 (o + 5) x7 a3 fun d9 => lv (d9 o 13) fun x10 => ck (0 ≤ x10 ∧ x10 < 12) <| sd d9 (o + 6) x10 a4 fun d12 => sd d12 o 13 (w32 ((d12 o 13) + 1)) fun d13 => some (d13, (d13 o 13))
noncomputable def fX0_fact (d : Dt) (a1 a2 a3 a4 a5 : Int) : Option (Dt × Int) :=
  (if (fX0_isPerson d a1) = 0 then some (d, (-1)) else (if (fX0_within a2 0 9) = 0 then some (d, (-2)) else (if (fX0_within a3 0 1) = 0 then some (d, (-2)) else (if (fX12_isDay a4) = 0 then some (d, (-2)) else (if (fX0_within a5 a4 36524) = 0 then some (d, (-2)) else ck (0 ≤ a1 ∧ a1 < 60) <| lv (d 9 a1) fun x7 => ck (x7 ≠ 0) <| (if (d x7 13) = 12 then some (d, (-5)) else bd (fX0_write d 5 a1 (w32 ((w32 (2 * a2)) + a3)) a4 a5) fun d11 => lv (d11 9 a1) fun x13 => ck (x13 ≠ 0) <| b2 (fX13_fact d11 x13 a2 a3 a4 a5) fun d16 x18 => some (d16, x18)))))))
noncomputable def fX11_fact (d : Dt) (a1 a2 a3 a4 a5 : Int) : Option (Dt × Int) :=
  (if (fX11_isPerson d a1) = 0 then some (d, (-1)) else (if (fX11_in a2 0 9) = 0 then some (d, (-2)) else (if (fX11_in a3 0 1) = 0 then some (d, (-2)) else (if (fX11_isDay a4) = 0 then some (d, (-2)) else (if (fX11_isDay a5) = 0 then some (d, (-2)) else (if a4 ≤ a5 then ck (0 ≤ a1 ∧ a1 < 60) <| (if (d 1560 a1) = 12 then some (d, (-5)) else lv (w32 ((w32 (12 * a1)) + (d 1560 a1))) fun x9 => ck (0 ≤ x9 ∧ x9 < 720) <| sd d 1561 x9 a2 fun d11 => sd d11 1562 x9 a3 fun d12 => sd d12 1563 x9 a4 fun d13 => sd d13 1564 x9 a5 fun d14 => sd d14 1560 a1 (w32 ((d14 1560 a1) + 1)) fun d15 => bd (fX11_write d15 5 a1 (w32 ((w32 (2 * a2)) + a3)) a4 a5) fun d16 => some (d16, (d16 1560 a1))) else some (d, (-2))))))))
noncomputable def fX13_die (d : Dt) (o a1 : Int) : Option Dt :=
  sd d o 4 a1 fun d1 => sd d1 o 5 1 fun d2 => some d2
noncomputable def fX0_die (d : Dt) (a1 a2 : Int) : Option (Dt × Int) :=
  (if (fX0_isPerson d a1) = 0 then some (d, (-1)) else (if (fX12_isDay a2) = 0 then some (d, (-2)) else ck (0 ≤ a1 ∧ a1 < 60) <| lv (d 9 a1) fun x4 => ck (x4 ≠ 0) <| (if (d x4 3) ≤ a2 then lv (d 9 a1) fun x8 => ck (x8 ≠ 0) <| (if (d x8 5) = 0 then lv (d 9 a1) fun x12 => ck (x12 ≠ 0) <| bd (fX13_die d x12 a2) fun d15 => bd (fX0_write d15 6 a1 a2 0 0) fun d17 => some (d17, 1) else some (d, (-4))) else some (d, (-2)))))
noncomputable def fX11_die (d : Dt) (a1 a2 : Int) : Option (Dt × Int) :=
  (if (fX11_isPerson d a1) = 0 then some (d, (-1)) else (if (fX11_isDay a2) = 0 then some (d, (-2)) else ck (0 ≤ a1 ∧ a1 < 60) <| (if (d 1552 a1) ≤ a2 then (if (d 1556 a1) = (-2147483648) then sd d 1556 a1 a2 fun d6 => bd (fX11_write d6 6 a1 a2 0 0) fun d7 => some (d7, 1) else some (d, (-4))) else some (d, (-2)))))
noncomputable def fX13_birthday_23 (d : Dt) (o a1 a2 s0 : Int) : Option Int :=
  (if s0 = 0 then b1 (fX12_of a1 (d o 1) (d o 2)) fun x8 => some x8 else (if a2 = 0 then b1 (fX12_of a1 3 1) fun x4 => some x4 else b1 (fX12_of a1 2 28) fun x6 => some x6))
noncomputable def fX13_birthday (d : Dt) (o a1 a2 : Int) : Option Int :=
  (if (fX12_is a1 (d o 1) (d o 2) 1900) = 0 then fX13_birthday_23 d o a1 a2 1 else fX13_birthday_23 d o a1 a2 0)
noncomputable def fX13_age_12f (d : Dt) (o a1 a2 : Int) (s : Int) : Option ((Int) ⊕ Int) := (fun v3 => (if 2099 < (w32 ((w32 ((d o 0) + v3)) + 1)) then up (some v3) else b1 (fX13_birthday d o (w32 ((w32 ((d o 0) + v3)) + 1)) a2) fun x3 => (if a1 < x3 then up (some v3) else lv (w32 (v3 + 1)) fun x6 => some (Sum.inl x6)))) s
noncomputable def fX13_age_12 (d : Dt) (o a1 a2 v3 : Int) : Option Int := loop (fX13_age_12f d o a1 a2) v3
noncomputable def fX13_age (d : Dt) (o a1 a2 : Int) : Option Int :=
  (if (d o 3) ≤ a1 then fX13_age_12 d o a1 a2 0 else some (-1))
noncomputable def fX0_age_53 (d : Dt) (a1 a2 s0 s1 s2 : Int) : Option Int :=
  b1 (fX13_age d s0 s1 s2) fun x8 => some x8
noncomputable def fX0_age (d : Dt) (a1 a2 : Int) : Option Int :=
  (if (fX0_isPerson d a1) = 0 then some (-1) else (if (fX12_isDay a2) = 0 then some (-2) else ck (0 ≤ a1 ∧ a1 < 60) <| lv (d 9 a1) fun x4 => ck (x4 ≠ 0) <| (if (d 1 9) = 0 then fX0_age_53 d a1 a2 x4 a2 0 else lv (d 1 7) fun x10 => ck (x10 ≠ 0) <| (if (d x10 1) = 0 then fX0_age_53 d a1 a2 x4 a2 0 else fX0_age_53 d a1 a2 x4 a2 1))))
noncomputable def fX11_ageOn_142 (d : Dt) (a1 a2 v4 s0 s1 : Int) : Option ((Int × Int) ⊕ Int) :=
  lv (w32 (s0 + s1)) fun x12 => lv (w32 (v4 + 1)) fun x13 => some (Sum.inl (x12, x13))
noncomputable def fX11_ageOn_128 (d : Dt) (a1 a2 v3 v4 s0 : Int) : Option ((Int × Int) ⊕ Int) :=
  (if a2 < s0 then fX11_ageOn_142 d a1 a2 v4 v3 0 else fX11_ageOn_142 d a1 a2 v4 v3 1)
noncomputable def fX11_ageOn_121 (d : Dt) (a1 a2 v3 v4 : Int) : Option ((Int × Int) ⊕ Int) :=
  b1 (fX11_dayOf v4 3 1) fun x9 => fX11_ageOn_128 d a1 a2 v3 v4 x9
noncomputable def fX11_ageOn_69 (d : Dt) (a1 a2 v3 v4 s0 : Int) : Option ((Int × Int) ⊕ Int) :=
  (if s0 = 0 then ck (0 ≤ a1 ∧ a1 < 60) <| b1 (fX11_dayOf v4 (d 1554 a1) (d 1555 a1)) fun x18 => fX11_ageOn_128 d a1 a2 v3 v4 x18 else (if (d 1545 45) = 0 then fX11_ageOn_121 d a1 a2 v3 v4 else (if (d 1545 46) = 0 then fX11_ageOn_121 d a1 a2 v3 v4 else b1 (fX11_dayOf v4 2 28) fun x15 => fX11_ageOn_128 d a1 a2 v3 v4 x15)))
noncomputable def fX11_ageOn_24f (d : Dt) (a1 a2 : Int) (s : Int × Int) : Option ((Int × Int) ⊕ Int) := match s with
  | (v3, v4) => (if 2099 < v4 then up (some v3) else ck (0 ≤ a1 ∧ a1 < 60) <| (if (d 1554 a1) = 2 then (if (d 1555 a1) = 29 then (if (fX11_yearDays v4) = 365 then fX11_ageOn_69 d a1 a2 v3 v4 1 else fX11_ageOn_69 d a1 a2 v3 v4 0) else fX11_ageOn_69 d a1 a2 v3 v4 0) else fX11_ageOn_69 d a1 a2 v3 v4 0))
noncomputable def fX11_ageOn_24 (d : Dt) (a1 a2 v3 v4 : Int) : Option Int := loop (fX11_ageOn_24f d a1 a2) (v3, v4)
noncomputable def fX11_ageOn (d : Dt) (a1 a2 : Int) : Option Int :=
  ck (0 ≤ a1 ∧ a1 < 60) <| (if (d 1552 a1) ≤ a2 then lv (w32 ((d 1553 a1) + 1)) fun x3 => fX11_ageOn_24 d a1 a2 0 x3 else some (-1))
noncomputable def fX11_age (d : Dt) (a1 a2 : Int) : Option Int :=
  (if (fX11_isPerson d a1) = 0 then some (-1) else (if (fX11_isDay a2) = 0 then some (-2) else b1 (fX11_ageOn d a1 a2) fun x3 => some x3))
noncomputable def fX13_address_27 (d : Dt) (o a1 v2 : Int) : Option Int :=
  (if 0 ≤ v2 then ck (0 ≤ v2 ∧ v2 < 10) <| some (d (o + 2) v2) else some (-1))
noncomputable def fX13_address_7f (d : Dt) (o a1 : Int) (s : Int) : Option ((Int) ⊕ Int) := (fun v2 => (if v2 < 0 then up (fX13_address_27 d o a1 v2) else ck (0 ≤ v2 ∧ v2 < 10) <| (if (d (o + 1) v2) ≤ a1 then up (fX13_address_27 d o a1 v2) else lv (w32 (v2 + (-1))) fun x7 => some (Sum.inl x7)))) s
noncomputable def fX13_address_7 (d : Dt) (o a1 v2 : Int) : Option Int := loop (fX13_address_7f d o a1) v2
noncomputable def fX13_address (d : Dt) (o a1 : Int) : Option Int :=
  lv (w32 ((d o 8) - 1)) fun x1 => fX13_address_7 d o a1 x1
noncomputable def fX0_addressOf (d : Dt) (a1 a2 : Int) : Option Int :=
  (if (fX0_isPerson d a1) = 0 then some (-1) else (if (fX12_isDay a2) = 0 then some (-2) else ck (0 ≤ a1 ∧ a1 < 60) <| lv (d 9 a1) fun x4 => ck (x4 ≠ 0) <| b1 (fX13_address d x4 a2) fun x7 => some x7))
noncomputable def fX11_addressOn_8f (d : Dt) (a1 a2 : Int) (s : Int × Int) : Option ((Int × Int) ⊕ Int) := match s with
  | (v3, v4) => ck (0 ≤ a1 ∧ a1 < 60) <| (if (w32 ((w32 (10 * a1)) + (d 1557 a1))) ≤ v4 then up ((if 0 ≤ v3 then ck (0 ≤ v3 ∧ v3 < 600) <| some (d 1559 v3) else some (-1))) else ck (0 ≤ v4 ∧ v4 < 600) <| (if a2 < (d 1558 v4) then lv (w32 (v4 + 1)) fun x8 => some (Sum.inl (v3, x8)) else (if v3 < 0 then lv (w32 (v4 + 1)) fun x10 => some (Sum.inl (v4, x10)) else ck (0 ≤ v3 ∧ v3 < 600) <| (if (d 1558 v4) < (d 1558 v3) then lv (w32 (v4 + 1)) fun x13 => some (Sum.inl (v3, x13)) else lv (w32 (v4 + 1)) fun x14 => some (Sum.inl (v4, x14))))))
noncomputable def fX11_addressOn_8 (d : Dt) (a1 a2 v3 v4 : Int) : Option Int := loop (fX11_addressOn_8f d a1 a2) (v3, v4)
noncomputable def fX11_addressOn (d : Dt) (a1 a2 : Int) : Option Int :=
  lv (w32 (10 * a1)) fun x1 => fX11_addressOn_8 d a1 a2 (-1) x1
noncomputable def fX11_addressOf (d : Dt) (a1 a2 : Int) : Option Int :=
  (if (fX11_isPerson d a1) = 0 then some (-1) else (if (fX11_isDay a2) = 0 then some (-2) else b1 (fX11_addressOn d a1 a2) fun x3 => some x3))
noncomputable def fX13_is_5f (d : Dt) (o a1 a2 : Int) (s : Int × Int) : Option ((Int × Int) ⊕ Int) := match s with
  | (v3, v4) => (if (d o 13) ≤ v4 then up (some v3) else ck (0 ≤ v4 ∧ v4 < 12) <| (if (d (o + 3) v4) = a1 then (if (fX0_within a2 (d (o + 5) v4) (d (o + 6) v4)) = 0 then lv (w32 (v4 + 1)) fun x6 => some (Sum.inl (v3, x6)) else lv (d (o + 4) v4) fun x7 => lv (w32 (v4 + 1)) fun x8 => some (Sum.inl (x7, x8))) else lv (w32 (v4 + 1)) fun x4 => some (Sum.inl (v3, x4))))
noncomputable def fX13_is_5 (d : Dt) (o a1 a2 v3 v4 : Int) : Option Int := loop (fX13_is_5f d o a1 a2) (v3, v4)
noncomputable def fX13_is (d : Dt) (o a1 a2 : Int) : Option Int :=
  fX13_is_5 d o a1 a2 0 0
noncomputable def fX0_is (d : Dt) (a1 a2 a3 : Int) : Option Int :=
  (if (fX0_isPerson d a1) = 0 then some (-1) else (if (fX0_within a2 0 9) = 0 then some (-2) else (if (fX12_isDay a3) = 0 then some (-2) else ck (0 ≤ a1 ∧ a1 < 60) <| lv (d 9 a1) fun x5 => ck (x5 ≠ 0) <| b1 (fX13_is d x5 a2 a3) fun x8 => some x8)))
noncomputable def fX11_isSo_9f (d : Dt) (a1 a2 a3 : Int) (s : Int × Int) : Option ((Int × Int) ⊕ Int) := match s with
  | (v4, v5) => ck (0 ≤ a1 ∧ a1 < 60) <| (if (w32 ((w32 (12 * a1)) + (d 1560 a1))) ≤ v5 then up ((if v4 = 1 then some 1 else some 0)) else ck (0 ≤ v5 ∧ v5 < 720) <| (if (d 1561 v5) = a2 then (if (fX11_in a3 (d 1563 v5) (d 1564 v5)) = 0 then lv (w32 (v5 + 1)) fun x9 => some (Sum.inl (v4, x9)) else lv (d 1562 v5) fun x10 => lv (w32 (v5 + 1)) fun x11 => some (Sum.inl (x10, x11))) else lv (w32 (v5 + 1)) fun x7 => some (Sum.inl (v4, x7))))
noncomputable def fX11_isSo_9 (d : Dt) (a1 a2 a3 v4 v5 : Int) : Option Int := loop (fX11_isSo_9f d a1 a2 a3) (v4, v5)
noncomputable def fX11_isSo (d : Dt) (a1 a2 a3 : Int) : Option Int :=
  lv (w32 (12 * a1)) fun x1 => fX11_isSo_9 d a1 a2 a3 0 x1
noncomputable def fX11_is (d : Dt) (a1 a2 a3 : Int) : Option Int :=
  (if (fX11_isPerson d a1) = 0 then some (-1) else (if (fX11_in a2 0 9) = 0 then some (-2) else (if (fX11_isDay a3) = 0 then some (-2) else b1 (fX11_isSo d a1 a2 a3) fun x4 => (if x4 = 0 then some 0 else some 1))))
noncomputable def fX5_begin (d : Dt) (o a1 : Int) : Option Dt :=
  sd d o 1 0 fun d1 => sd d1 o 2 a1 fun d2 => sd d2 o 3 a1 fun d3 => some d3
noncomputable def fX4_begin (d : Dt) (o : Int) : Option Dt :=
  sd d o 1 0 fun d1 => sd d1 o 2 0 fun d2 => sd d2 o 3 0 fun d3 => sd d3 o 4 1 fun d4 => sd d4 o 5 0 fun d5 => bd (fX5_begin d5 (o + 2) 0) fun d6 => bd (fX5_begin d6 (o + 4) 0) fun d8 => sd d8 o 14 0 fun d10 => some d10
noncomputable def fX2_isLetter (d : Dt) (a1 : Int) : Option Int :=
  (if (d 10 4) ≤ a1 then some 0 else ck (0 ≤ a1 ∧ a1 < 4000) <| (if (fX0_within (d 2 a1) 65 90) = 0 then some 0 else some 1))
noncomputable def fX2_isDigit (d : Dt) (a1 : Int) : Option Int :=
  (if (d 10 4) ≤ a1 then some 0 else ck (0 ≤ a1 ∧ a1 < 4000) <| (if (fX0_within (d 2 a1) 48 57) = 0 then some 0 else some 1))
noncomputable def fX2_isWord_23f (d : Dt) (a1 : Int) (s : Int) : Option ((Int) ⊕ Int) := (fun v2 => (if (d 10 6) ≤ v2 then up (some 1) else ck (0 ≤ v2 ∧ v2 < 4000) <| lv (w32 (v2 - (d 10 5))) fun x5 => ck (0 ≤ x5 ∧ x5 < sLen a1) <| (if (d 2 v2) = (sAt a1 x5) then lv (w32 (v2 + 1)) fun x8 => some (Sum.inl x8) else up (some 0)))) s
noncomputable def fX2_isWord_23 (d : Dt) (a1 v2 : Int) : Option Int := loop (fX2_isWord_23f d a1) v2
noncomputable def fX2_isWord (d : Dt) (a1 : Int) : Option Int :=
  (if (w32 ((d 10 6) - (d 10 5))) = (sLen a1) then lv (d 10 5) fun x2 => fX2_isWord_23 d a1 x2 else some 0)
noncomputable def fX2_wordHere_2f (d : Dt) (s : Int) : Option ((Int) ⊕ Int) := (fun v1 => (if 55 ≤ v1 then up (some (-1)) else ck (0 ≤ v1 ∧ v1 < 55) <| lv (d 14 v1) fun x3 => ck (x3 ≠ 0) <| b1 (fX2_isWord d x3) fun x6 => (if x6 = 0 then lv (w32 (v1 + 1)) fun x9 => some (Sum.inl x9) else up (some v1)))) s
noncomputable def fX2_wordHere_2 (d : Dt) (v1 : Int) : Option Int := loop (fX2_wordHere_2f d) v1
noncomputable def fX2_wordHere (d : Dt) : Option Int :=
  fX2_wordHere_2 d 0
noncomputable def fX2_numberHere_81 (d : Dt) (s1 : Int) : Option Dt :=
  sd d 10 8 s1 fun d5 => some d5
noncomputable def fX2_numberHere_58 (d : Dt) : Option Dt :=
  (if 5 < (w32 ((d 10 6) - (d 10 5))) then fX2_numberHere_81 d 99999 else fX2_numberHere_81 d (d 10 8))
noncomputable def fX2_numberHere_10f (s : Dt × Int) : Option ((Dt × Int) ⊕ Dt) := match s with
  | (d, v1) => (if (d 10 6) ≤ v1 then up (fX2_numberHere_58 d) else (if 5 < (w32 ((d 10 6) - (d 10 5))) then up (fX2_numberHere_58 d) else ck (0 ≤ v1 ∧ v1 < 4000) <| sd d 10 8 (w32 ((w32 ((w32 (10 * (d 10 8))) + (d 2 v1))) - 48)) fun d8 => lv (w32 (v1 + 1)) fun x9 => some (Sum.inl (d8, x9))))
noncomputable def fX2_numberHere_10 (d : Dt) (v1 : Int) : Option Dt := loop (fX2_numberHere_10f) (d, v1)
noncomputable def fX2_numberHere (d : Dt) : Option Dt :=
  sd d 10 8 0 fun d1 => lv (d1 10 5) fun x2 => fX2_numberHere_10 d1 x2
noncomputable def fX2_take_182 (d : Dt) : Option Dt :=
  (if (d 10 7) = 1 then b1 (fX2_wordHere d) fun x23 => sd d 10 8 x23 fun d25 => some d25 else (if (d 10 7) = 2 then bd (fX2_numberHere d) fun d21 => some d21 else (if (d 10 7) = 3 then lv (d 10 5) fun x17 => ck (0 ≤ x17 ∧ x17 < 4000) <| sd d 10 8 (d 2 x17) fun d19 => sd d19 10 6 (w32 ((d19 10 6) + 1)) fun d20 => some d20 else some d)))
noncomputable def fX2_take_150f (s : Dt) : Option ((Dt) ⊕ Dt) := (fun d => (if (d 10 7) = 2 then b1 (fX2_isDigit d (d 10 6)) fun x26 => (if x26 = 0 then up (fX2_take_182 d) else sd d 10 6 (w32 ((d 10 6) + 1)) fun d29 => some (Sum.inl d29)) else up (fX2_take_182 d))) s
noncomputable def fX2_take_150 (d : Dt) : Option Dt := loop (fX2_take_150f) d
noncomputable def fX2_take_118f (s : Dt) : Option ((Dt) ⊕ Dt) := (fun d => (if (d 10 7) = 1 then b1 (fX2_isLetter d (d 10 6)) fun x30 => (if x30 = 0 then up (fX2_take_150 d) else sd d 10 6 (w32 ((d 10 6) + 1)) fun d33 => some (Sum.inl d33)) else up (fX2_take_150 d))) s
noncomputable def fX2_take_118 (d : Dt) : Option Dt := loop (fX2_take_118f) d
noncomputable def fX2_take_115 (d : Dt) (s1 : Int) : Option Dt :=
  sd d 10 7 s1 fun d11 => fX2_take_118 d11
noncomputable def fX2_take_60 (d : Dt) : Option Dt :=
  sd d 10 6 (d 10 5) fun d3 => (if (d3 10 5) = (d3 10 4) then fX2_take_115 d3 0 else b1 (fX2_isLetter d3 (d3 10 5)) fun x5 => (if x5 = 0 then b1 (fX2_isDigit d3 (d3 10 5)) fun x8 => (if x8 = 0 then fX2_take_115 d3 3 else fX2_take_115 d3 2) else fX2_take_115 d3 1))
noncomputable def fX2_take_47 (d : Dt) : Option ((Dt) ⊕ Dt) :=
  sd d 10 5 (w32 ((d 10 5) + 1)) fun d37 => some (Sum.inl d37)
noncomputable def fX2_take_8f (s : Dt) : Option ((Dt) ⊕ Dt) := (fun d => (if (d 10 4) ≤ (d 10 5) then up (fX2_take_60 d) else lv (d 10 5) fun x34 => ck (0 ≤ x34 ∧ x34 < 4000) <| (if (d 2 x34) = 32 then fX2_take_47 d else lv (d 10 5) fun x38 => ck (0 ≤ x38 ∧ x38 < 4000) <| (if (d 2 x38) = 10 then fX2_take_47 d else up (fX2_take_60 d))))) s
noncomputable def fX2_take_8 (d : Dt) : Option Dt := loop (fX2_take_8f) d
noncomputable def fX2_take (d : Dt) : Option Dt :=
  sd d 10 5 (d 10 6) fun d1 => fX2_take_8 d1
noncomputable def fX2_bad (d : Dt) : Option (Dt × Int) :=
  sd d 11 0 (d 10 5) fun d1 => some (d1, 11)
noncomputable def fX2_oneOf_20 (d : Dt) (a1 a2 : Int) : Option (Dt × Option Int) :=
  b2 (fX2_bad d) fun d2 x4 => some (d2, none)
noncomputable def fX2_oneOf (d : Dt) (a1 a2 : Int) : Option (Dt × Option Int) :=
  (if (d 10 7) = 1 then (if (fX0_within (d 10 8) a1 a2) = 0 then fX2_oneOf_20 d a1 a2 else lv (w32 ((d 10 8) - a1)) fun x6 => bd (fX2_take d) fun d7 => some (d7, some x6)) else fX2_oneOf_20 d a1 a2)
noncomputable def fX2_note_20 (d : Dt) (a1 a2 : Int) : Option Dt :=
  sd d 10 9 a2 fun d3 => some d3
noncomputable def fX2_note (d : Dt) (a1 a2 : Int) : Option Dt :=
  (if a1 = 0 then (if (d 10 9) = (-1) then fX2_note_20 d a1 a2 else (if (d 10 9) ≤ a2 then some d else fX2_note_20 d a1 a2)) else some d)
def fX2_isWordHere (d : Dt) (a1 : Int) : Int :=
  (if (d 10 7) = 1 then (if (d 10 8) = a1 then 1 else 0) else 0)
noncomputable def fX2_word (d : Dt) (a1 : Int) : Option (Dt × Option Int) :=
  (if (fX2_isWordHere d a1) = 0 then b2 (fX2_bad d) fun d4 x6 => some (d4, none) else bd (fX2_take d) fun d2 => some (d2, some 0))
noncomputable def fX2_number_32 (d : Dt) (s1 : Int) : Option (Dt × Option Int) :=
  bd (fX2_note d s1 (d 10 5)) fun d3 => lv (d3 10 8) fun x5 => bd (fX2_take d3) fun d6 => some (d6, some x5)
noncomputable def fX2_number (d : Dt) : Option (Dt × Option Int) :=
  (if (d 10 7) = 2 then (if 5 < (w32 ((d 10 6) - (d 10 5))) then fX2_number_32 d 0 else fX2_number_32 d 1) else b2 (fX2_bad d) fun d8 x10 => some (d8, none))
noncomputable def fX2_area (d : Dt) : Option (Dt × Option Int) :=
  lv (d 10 5) fun x1 => bx (fX2_number d) (fun d2 => some (d2, none)) fun d2 x4 => bd (fX2_note d2 (fX1_has d2 x4) x1) fun d6 => some (d6, some x4)
noncomputable def fX2_number_2 (d : Dt) (a1 a2 : Int) : Option (Dt × Option Int) :=
  lv (d 10 5) fun x1 => bx (fX2_number d) (fun d2 => some (d2, none)) fun d2 x4 => bd (fX2_note d2 (fX0_within x4 a1 a2) x1) fun d6 => some (d6, some x4)
def fX2_isSign (d : Dt) (a1 : Int) : Int :=
  (if (d 10 7) = 3 then (if (d 10 8) = a1 then 1 else 0) else 0)
noncomputable def fX2_sign (d : Dt) (a1 : Int) : Option (Dt × Option Int) :=
  (if (fX2_isSign d a1) = 0 then b2 (fX2_bad d) fun d4 x6 => some (d4, none) else bd (fX2_take d) fun d2 => some (d2, some 0))
noncomputable def fX2_lists_127 (d : Dt) (a1 s1 : Int) : Option (Dt × Option Int) :=
  bd (fX2_note d s1 (d 10 5)) fun d10 => sd d10 10 12 1 fun d12 => sd d12 a1 7 1 fun d13 => bd (fX2_take d13) fun d14 => some (d14, some 0)
noncomputable def fX2_lists_105 (d : Dt) (a1 : Int) : Option (Dt × Option Int) :=
  (if (fX2_isWordHere d 23) = 0 then some (d, some 0) else (if (d 10 12) = 0 then fX2_lists_127 d a1 1 else fX2_lists_127 d a1 0))
noncomputable def fX2_lists_87 (d : Dt) (a1 : Int) : Option (Dt × Option Int) :=
  (if (fX2_isWordHere d 22) = 0 then fX2_lists_105 d a1 else sd d a1 6 1 fun d16 => bd (fX2_take d16) fun d17 => fX2_lists_105 d17 a1)
noncomputable def fX2_lists_83 (d : Dt) (a1 v2 s1 : Int) : Option (Dt × Option Int) :=
  bd (fX2_note d s1 v2) fun d37 => fX2_lists_87 d37 a1
noncomputable def fX2_lists (d : Dt) (a1 : Int) : Option (Dt × Option Int) :=
  bx (fX2_oneOf d 46 54) (fun d1 => some (d1, none)) fun d1 x3 => sd d1 a1 3 x3 fun d5 => (if (fX2_isWordHere d5 21) = 0 then fX2_lists_87 d5 a1 else bd (fX2_take d5) fun d19 => lv (d19 10 5) fun x21 => bx (fX2_number d19) (fun d22 => some (d22, none)) fun d22 x24 => sd d22 a1 4 x24 fun d26 => bx (fX2_sign d26 47) (fun d27 => some (d27, none)) fun d27 x29 => bx (fX2_number d27) (fun d31 => some (d31, none)) fun d31 x33 => sd d31 a1 5 x33 fun d35 => (if (fX0_within (d35 a1 5) 1 1000) = 0 then fX2_lists_83 d35 a1 x21 0 else (if (d35 a1 5) ≤ (d35 a1 4) then fX2_lists_83 d35 a1 x21 0 else fX2_lists_83 d35 a1 x21 1)))
noncomputable def fX2_contest_147 (d : Dt) (a1 v2 : Int) : Option (Dt × Option Int) :=
  bx (fX2_oneOf d 51 52) (fun d53 => some (d53, none)) fun d53 x55 => sd d53 v2 3 x55 fun d57 => some (d57, some 0)
noncomputable def fX2_contest_18 (d : Dt) (a1 s1 : Int) : Option (Dt × Option Int) :=
  bd (fX2_note d s1 a1) fun d5 => lv (d5 10 10) fun x7 => ck (x7 ≠ 0) <| lv (d5 10 10) fun x10 => ck (x10 ≠ 0) <| lv (fJ9_min (d5 x10 14) 5) fun x13 => ck (0 ≤ x13 ∧ x13 < 6) <| lv ((x7 + 13) + x13) fun x15 => lv (d5 10 10) fun x16 => ck (x16 ≠ 0) <| sd d5 x16 14 (w32 ((d5 x16 14) + 1)) fun d19 => bx (fX2_word d19 9) (fun d20 => some (d20, none)) fun d20 x22 => bx (fX2_area d20) (fun d24 => some (d24, none)) fun d24 x26 => sd d24 x15 0 x26 fun d28 => bx (fX2_word d28 10) (fun d29 => some (d29, none)) fun d29 x31 => bx (fX2_number_2 d29 1 9) (fun d33 => some (d33, none)) fun d33 x35 => sd d33 x15 1 x35 fun d37 => bx (fX2_word d37 11) (fun d38 => some (d38, none)) fun d38 x40 => bx (fX2_oneOf d38 31 45) (fun d42 => some (d42, none)) fun d42 x44 => sd d42 x15 2 x44 fun d46 => sd d46 x15 3 0 fun d47 => sd d47 x15 4 0 fun d48 => sd d48 x15 5 1 fun d49 => sd d49 x15 6 0 fun d50 => sd d50 x15 7 0 fun d51 => (if (d51 x15 2) = 12 then fX2_contest_147 d51 a1 x15 else (if (d51 x15 2) = 13 then fX2_contest_147 d51 a1 x15 else (if (d51 x15 2) = 14 then bx (fX2_lists d51 x15) (fun d60 => some (d60, none)) fun d60 x62 => some (d60, some 0) else some (d51, some 0))))
noncomputable def fX2_contest (d : Dt) (a1 : Int) : Option (Dt × Option Int) :=
  lv (d 10 10) fun x1 => ck (x1 ≠ 0) <| (if 6 ≤ (d x1 14) then fX2_contest_18 d a1 0 else fX2_contest_18 d a1 1)
noncomputable def fX12_weekday (a1 : Int) : Option Int :=
  b1 (fJ9_floorMod (w32 (a1 + 5)) 7) fun x1 => some x1
noncomputable def fX12_last (a1 a2 a3 : Int) : Option Int :=
  (if (fX12_is a3 a2 1 2000) = 0 then some (-1) else b1 (fX12_of a3 a2 (fX12_lengthOf a3 a2)) fun x2 => b1 (fX12_weekday x2) fun x4 => b1 (fJ9_floorMod (w32 (x4 - a1)) 7) fun x6 => some (w32 (x2 - x6)))
noncomputable def fX12_easter (a1 : Int) : Option Int :=
  (if (fX0_within a1 2000 2099) = 0 then some (-1) else lv (Int.tmod a1 19) fun x2 => lv (w32 (Int.tdiv a1 100)) fun x3 => lv (Int.tmod a1 100) fun x4 => lv (Int.tmod (w32 ((w32 ((w32 ((w32 ((w32 (19 * x2)) + x3)) - (w32 (Int.tdiv x3 4)))) - (w32 (Int.tdiv (w32 ((w32 (x3 - (w32 (Int.tdiv (w32 (x3 + 8)) 25)))) + 1)) 3)))) + 15)) 30) fun x5 => lv (Int.tmod (w32 ((w32 ((w32 ((w32 (32 + (w32 (2 * (Int.tmod x3 4))))) + (w32 (2 * (w32 (Int.tdiv x4 4)))))) - x5)) - (Int.tmod x4 4))) 7) fun x6 => lv (w32 (Int.tdiv (w32 ((w32 (x2 + (w32 (11 * x5)))) + (w32 (22 * x6)))) 451)) fun x7 => lv (w32 ((w32 ((w32 (x5 + x6)) - (w32 (7 * x7)))) + 114)) fun x8 => b1 (fX12_of a1 (w32 (Int.tdiv x8 31)) (w32 ((Int.tmod x8 31) + 1))) fun x9 => some x9)
noncomputable def fX12_nth (a1 a2 a3 a4 : Int) : Option Int :=
  (if (fX12_is a4 a3 1 2000) = 0 then some (-1) else (if (fX0_within a1 1 5) = 0 then some (-1) else b1 (fX12_of a4 a3 1) fun x3 => b1 (fX12_weekday x3) fun x5 => b1 (fJ9_floorMod (w32 (a2 - x5)) 7) fun x7 => lv (w32 (x7 + (w32 (7 * (w32 (a1 - 1)))))) fun x9 => (if (fX12_lengthOf a4 a3) ≤ x9 then some (-1) else some (w32 (x3 + x9)))))
noncomputable def fX2_dateBehind (d : Dt) (a1 : Int) : Option (Dt × Option Int) :=
  (if (fX2_isSign d 45) = 0 then bx (fX2_oneOf d 24 30) (fun d2 => some (d2, none)) fun d2 x4 => bx (fX2_number d2) (fun d6 => some (d6, none)) fun d6 x8 => bx (fX2_number d6) (fun d10 => some (d10, none)) fun d10 x12 => b1 (fX12_nth a1 x4 x8 x12) fun x14 => some (d10, some x14) else bd (fX2_take d) fun d16 => bx (fX2_number d16) (fun d18 => some (d18, none)) fun d18 x20 => bx (fX2_sign d18 45) (fun d22 => some (d22, none)) fun d22 x24 => bx (fX2_number d22) (fun d26 => some (d26, none)) fun d26 x28 => (if (fX12_is a1 x20 x28 2000) = 0 then some (d26, some (-1)) else b1 (fX12_of a1 x20 x28) fun x31 => some (d26, some x31)))
noncomputable def fX2_date_93 (d : Dt) (v1 v2 s1 : Int) : Option (Dt × Option Int) :=
  bd (fX2_note d s1 v1) fun d13 => some (d13, some (fJ9_max 0 v2))
noncomputable def fX2_date_82 (d : Dt) (v1 v2 : Int) : Option (Dt × Option Int) :=
  (if v2 = (-1) then fX2_date_93 d v1 v2 0 else fX2_date_93 d v1 v2 1)
noncomputable def fX2_date (d : Dt) : Option (Dt × Option Int) :=
  lv (d 10 5) fun x1 => (if (fX2_isWordHere d 12) = 0 then (if (fX2_isWordHere d 13) = 0 then bx (fX2_number d) (fun d4 => some (d4, none)) fun d4 x6 => bx (fX2_dateBehind d4 x6) (fun d8 => some (d8, none)) fun d8 x10 => fX2_date_82 d8 x1 x10 else bd (fX2_take d) fun d15 => bx (fX2_number d15) (fun d17 => some (d17, none)) fun d17 x19 => b1 (fX12_easter x19) fun x21 => fX2_date_82 d17 x1 x21) else bd (fX2_take d) fun d23 => bx (fX2_oneOf d23 24 30) (fun d25 => some (d25, none)) fun d25 x27 => bx (fX2_number d25) (fun d29 => some (d29, none)) fun d29 x31 => bx (fX2_number d29) (fun d33 => some (d33, none)) fun d33 x35 => b1 (fX12_last x27 x31 x35) fun x37 => fX2_date_82 d33 x1 x37)
noncomputable def fX2_time_58 (d : Dt) (v1 s0 s1 : Int) : Option ((Dt × Int) ⊕ (Dt × Option Int)) :=
  lv (w32 (s0 + s1)) fun x15 => bd (fX2_note d (fX0_within x15 0 36524) v1) fun d16 => some (Sum.inl (d16, x15))
noncomputable def fX2_time_28 (d : Dt) (v1 v2 : Int) : Option ((Dt × Int) ⊕ (Dt × Option Int)) :=
  lv (fX2_isSign d 43) fun x7 => bd (fX2_take d) fun d8 => bx (fX2_number d8) (fun d10 => some (Sum.inr (d10, none))) fun d10 x12 => (if x7 = 0 then fX2_time_58 d10 v1 v2 (w32 (-x12)) else fX2_time_58 d10 v1 v2 x12)
noncomputable def fX2_time_10f (v1 : Int) (s : Dt × Int) : Option ((Dt × Int) ⊕ (Dt × Option Int)) := match s with
  | (d, v2) => (if (fX2_isSign d 43) = 0 then (if (fX2_isSign d 45) = 0 then up (some (d, some v2)) else fX2_time_28 d v1 v2) else fX2_time_28 d v1 v2)
noncomputable def fX2_time_10 (d : Dt) (v1 v2 : Int) : Option (Dt × Option Int) := loop (fX2_time_10f v1) (d, v2)
noncomputable def fX2_time (d : Dt) : Option (Dt × Option Int) :=
  lv (d 10 5) fun x1 => bx (fX2_date d) (fun d2 => some (d2, none)) fun d2 x4 => fX2_time_10 d2 x1 x4
noncomputable def fX2_days_68 (d : Dt) (v1 v2 s1 : Int) : Option ((Dt × Int) ⊕ (Dt × Option Int)) :=
  bd (fX2_note d s1 v2) fun d14 => lv (w32 (v1 + 1)) fun x16 => some (Sum.inl (d14, x16))
noncomputable def fX2_days_17 (d : Dt) (v1 : Int) : Option ((Dt × Int) ⊕ (Dt × Option Int)) :=
  lv (d 10 5) fun x3 => lv (d 10 10) fun x4 => ck (x4 ≠ 0) <| bx (fX2_time d) (fun d7 => some (Sum.inr (d7, none))) fun d7 x9 => ck (0 ≤ v1 ∧ v1 < 4) <| sd d7 (x4 + 1) v1 x9 fun d12 => (if v1 = 0 then fX2_days_68 d12 v1 x3 1 else lv (d12 10 10) fun x17 => ck (x17 ≠ 0) <| lv (d12 10 10) fun x20 => ck (x20 ≠ 0) <| lv (w32 (v1 - 1)) fun x23 => ck (0 ≤ x23 ∧ x23 < 4) <| (if (d12 (x17 + 1) v1) < (d12 (x20 + 1) x23) then fX2_days_68 d12 v1 x3 0 else fX2_days_68 d12 v1 x3 1))
noncomputable def fX2_days_2f (s : Dt × Int) : Option ((Dt × Int) ⊕ (Dt × Option Int)) := match s with
  | (d, v1) => (if 4 ≤ v1 then up (some (d, some 0)) else (if v1 ≤ 0 then fX2_days_17 d v1 else bx (fX2_sign d 44) (fun d26 => some (Sum.inr (d26, none))) fun d26 x28 => fX2_days_17 d26 v1))
noncomputable def fX2_days_2 (d : Dt) (v1 : Int) : Option (Dt × Option Int) := loop (fX2_days_2f) (d, v1)
noncomputable def fX2_days (d : Dt) : Option (Dt × Option Int) :=
  fX2_days_2 d 0
noncomputable def fX2_push (d : Dt) (a1 : Int) : Option Dt :=
  lv (d 10 15) fun x1 => ck (0 ≤ x1 ∧ x1 < 4000) <| sd d 13 x1 a1 fun d3 => sd d3 10 15 (w32 ((d3 10 15) + 1)) fun d4 => some d4
def fX2_isTest (d : Dt) : Int :=
  (if (d 10 7) = 1 then (if (fX0_within (d 10 8) 17 19) = 0 then (if (d 10 8) = 9 then 1 else 0) else 1) else 0)
noncomputable def fX5_put (d : Dt) (o a1 : Int) : Option Dt :=
  lv (d o 1) fun x1 => ck (0 ≤ x1 ∧ x1 < 4000) <| sd d (o + 1) x1 a1 fun d3 => sd d3 o 1 (w32 ((d3 o 1) + 1)) fun d4 => some d4
noncomputable def fX2_test_112 (d : Dt) (a1 v2 v3 v4 v5 s1 : Int) : Option (Dt × Option Int) :=
  bd (fX2_note d s1 v2) fun d14 => (if 40 ≤ (d14 10 13) then some (d14, some 0) else lv (d14 10 10) fun x17 => ck (x17 ≠ 0) <| lv (d14 10 13) fun x20 => ck (0 ≤ x20 ∧ x20 < 40) <| sd d14 (x17 + 6) x20 v3 fun d22 => lv (d22 10 10) fun x23 => ck (x23 ≠ 0) <| lv (d22 10 13) fun x26 => ck (0 ≤ x26 ∧ x26 < 40) <| sd d22 (x23 + 7) x26 v4 fun d28 => lv (d28 10 10) fun x29 => ck (x29 ≠ 0) <| lv (d28 10 13) fun x32 => ck (0 ≤ x32 ∧ x32 < 40) <| sd d28 (x29 + 8) x32 v5 fun d34 => lv (d34 10 10) fun x35 => ck (x35 ≠ 0) <| lv (d34 10 13) fun x38 => ck (0 ≤ x38 ∧ x38 < 40) <| sd d34 (x35 + 9) x38 v2 fun d40 => lv (d40 10 10) fun x41 => ck (x41 ≠ 0) <| lv (d40 10 13) fun x44 => ck (0 ≤ x44 ∧ x44 < 40) <| sd d40 (x41 + 10) x44 ((d40 10 16) % 2) fun d46 => bd (fX5_put d46 a1 (d46 10 13)) fun d47 => sd d47 10 13 (w32 ((d47 10 13) + 1)) fun d49 => sd d49 a1 3 (d49 10 13) fun d50 => some (d50, some 0))
noncomputable def fX2_test_97 (d : Dt) (a1 v2 v3 v4 v5 : Int) : Option (Dt × Option Int) :=
  (if 40 ≤ (d 10 13) then fX2_test_112 d a1 v2 v3 v4 v5 0 else fX2_test_112 d a1 v2 v3 v4 v5 1)
noncomputable def fX2_test_75 (d : Dt) (a1 v2 v3 v4 : Int) : Option (Dt × Option Int) :=
  (if (fX2_isWordHere d 20) = 0 then fX2_test_97 d a1 v2 v3 v4 (-1) else bd (fX2_take d) fun d51 => bx (fX2_time d51) (fun d53 => some (d53, none)) fun d53 x55 => fX2_test_97 d53 a1 v2 v3 v4 x55)
noncomputable def fX2_test (d : Dt) (a1 : Int) : Option (Dt × Option Int) :=
  lv (d 10 5) fun x1 => lv (d 10 8) fun x2 => bd (fX2_take d) fun d3 => (if x2 = 9 then bx (fX2_area d3) (fun d65 => some (d65, none)) fun d65 x67 => fX2_test_75 d65 a1 x1 x2 x67 else (if x2 = 17 then bx (fX2_number_2 d3 0 150) (fun d61 => some (d61, none)) fun d61 x63 => fX2_test_75 d61 a1 x1 x2 x63 else (if x2 = 18 then bx (fX2_number_2 d3 1 400) (fun d57 => some (d57, none)) fun d57 x59 => fX2_test_75 d57 a1 x1 x2 x59 else bx (fX2_number_2 d3 0 9) (fun d8 => some (d8, none)) fun d8 x10 => fX2_test_75 d8 a1 x1 x2 x10)))
noncomputable def fX2_isTop (d : Dt) (a1 : Int) : Option Int :=
  (if (d 10 15) ≤ 0 then some 0 else lv (w32 ((d 10 15) - 1)) fun x2 => ck (0 ≤ x2 ∧ x2 < 4000) <| (if (d 13 x2) = a1 then some 1 else some 0))
noncomputable def fX2_pop_42 (d : Dt) (a1 s1 s2 : Int) : Option Dt :=
  lv (bXor s1 s2) fun x8 => ck (x8 = 0 ∨ x8 = 1) <| sd d 10 16 x8 fun d10 => some d10
noncomputable def fX2_pop (d : Dt) (a1 : Int) : Option Dt :=
  sd d 10 15 (w32 ((d 10 15) - 1)) fun d1 => lv (d1 10 15) fun x2 => ck (0 ≤ x2 ∧ x2 < 4000) <| lv (d1 13 x2) fun x4 => bd (fX5_put d1 a1 x4) fun d5 => (if x4 = 4002 then fX2_pop_42 d5 a1 (d5 10 16) 1 else fX2_pop_42 d5 a1 (d5 10 16) 0)
noncomputable def fX2_turns_0f (a1 : Int) (s : Dt) : Option ((Dt) ⊕ Dt) := (fun d => b1 (fX2_isTop d 4002) fun x1 => (if x1 = 0 then up (some d) else bd (fX2_pop d a1) fun d4 => some (Sum.inl d4))) s
noncomputable def fX2_turns_0 (d : Dt) (a1 : Int) : Option Dt := loop (fX2_turns_0f a1) d
noncomputable def fX2_turns (d : Dt) (a1 : Int) : Option Dt :=
  fX2_turns_0 d a1
noncomputable def fX2_operand_98 (d : Dt) (a1 a2 v3 s1 : Int) : Option ((Dt × Int) ⊕ (Dt × Option Int)) :=
  bd (fX2_push d s1) fun d12 => bd (fX2_take d12) fun d14 => some (Sum.inl (d14, v3))
noncomputable def fX2_operand_78 (d : Dt) (a1 a2 v3 v4 s1 : Int) : Option ((Dt × Int) ⊕ (Dt × Option Int)) :=
  bd (fX2_note d s1 (d 10 5)) fun d9 => (if v4 = 0 then fX2_operand_98 d9 a1 a2 v3 (-1) else fX2_operand_98 d9 a1 a2 v3 4002)
noncomputable def fX2_operand_57 (d : Dt) (a1 a2 v4 s0 s1 : Int) : Option ((Dt × Int) ⊕ (Dt × Option Int)) :=
  lv (w32 (s0 + s1)) fun x7 => (if v4 = 0 then (if 30 < (w32 (a2 + x7)) then fX2_operand_78 d a1 a2 x7 v4 0 else fX2_operand_78 d a1 a2 x7 v4 1) else fX2_operand_78 d a1 a2 x7 v4 1)
noncomputable def fX2_operand_33 (d : Dt) (a1 a2 v3 s0 : Int) : Option ((Dt × Int) ⊕ (Dt × Option Int)) :=
  lv (bXor (d 10 16) s0) fun x3 => ck (x3 = 0 ∨ x3 = 1) <| sd d 10 16 x3 fun d5 => (if s0 = 0 then fX2_operand_57 d5 a1 a2 s0 v3 1 else fX2_operand_57 d5 a1 a2 s0 v3 0)
noncomputable def fX2_operand_20 (d : Dt) (a1 a2 v3 : Int) : Option ((Dt × Int) ⊕ (Dt × Option Int)) :=
  (if (d 10 7) = 1 then fX2_operand_33 d a1 a2 v3 1 else fX2_operand_33 d a1 a2 v3 0)
noncomputable def fX2_operand_2f (a1 a2 : Int) (s : Dt × Int) : Option ((Dt × Int) ⊕ (Dt × Option Int)) := match s with
  | (d, v3) => (if (fX2_isWordHere d 16) = 0 then (if (fX2_isSign d 40) = 0 then up ((if (fX2_isTest d) = 0 then b2 (fX2_bad d) fun d25 x27 => some (d25, none) else bx (fX2_test d a1) (fun d19 => some (d19, none)) fun d19 x21 => bd (fX2_turns d19 a1) fun d23 => some (d23, some v3))) else fX2_operand_20 d a1 a2 v3) else fX2_operand_20 d a1 a2 v3)
noncomputable def fX2_operand_2 (d : Dt) (a1 a2 v3 : Int) : Option (Dt × Option Int) := loop (fX2_operand_2f a1 a2) (d, v3)
noncomputable def fX2_operand (d : Dt) (a1 a2 : Int) : Option (Dt × Option Int) :=
  fX2_operand_2 d a1 a2 0
noncomputable def fX2_joins_0f (a1 : Int) (s : Dt) : Option ((Dt) ⊕ Dt) := (fun d => (if (d 10 15) ≤ 0 then up (some d) else b1 (fX2_isTop d (-1)) fun x2 => (if x2 = 0 then bd (fX2_pop d a1) fun d5 => some (Sum.inl d5) else up (some d)))) s
noncomputable def fX2_joins_0 (d : Dt) (a1 : Int) : Option Dt := loop (fX2_joins_0f a1) d
noncomputable def fX2_joins (d : Dt) (a1 : Int) : Option Dt :=
  fX2_joins_0 d a1
noncomputable def fX2_sign_2_39 (d : Dt) (a1 v2 : Int) : Option ((Dt) ⊕ Dt) :=
  bd (fX2_pop d a1) fun d5 => some (Sum.inl d5)
noncomputable def fX2_sign_2_61 (d : Dt) (a1 s1 : Int) : Option Dt :=
  bd (fX2_push d s1) fun d9 => bd (fX2_take d9) fun d11 => some d11
noncomputable def fX2_sign_2_47 (d : Dt) (a1 v2 : Int) : Option Dt :=
  (if v2 = 0 then fX2_sign_2_61 d a1 4001 else fX2_sign_2_61 d a1 4000)
noncomputable def fX2_sign_2_15f (a1 v2 : Int) (s : Dt) : Option ((Dt) ⊕ Dt) := (fun d => b1 (fX2_isTop d 4000) fun x2 => (if x2 = 0 then (if v2 = 0 then b1 (fX2_isTop d 4001) fun x13 => (if x13 = 0 then up (fX2_sign_2_47 d a1 v2) else fX2_sign_2_39 d a1 v2) else up (fX2_sign_2_47 d a1 v2)) else fX2_sign_2_39 d a1 v2)) s
noncomputable def fX2_sign_2_15 (d : Dt) (a1 v2 : Int) : Option Dt := loop (fX2_sign_2_15f a1 v2) d
noncomputable def fX2_sign_2 (d : Dt) (a1 : Int) : Option Dt :=
  (if (d 10 8) = 15 then fX2_sign_2_15 d a1 1 else fX2_sign_2_15 d a1 0)
noncomputable def fX2_condition_101 (d : Dt) (a1 v2 s0 : Int) : Option ((Dt × Int × Int) ⊕ (Dt × Option Int)) :=
  (if s0 = 0 then some (Sum.inl (d, v2, s0)) else bd (fX2_sign_2 d a1) fun d20 => some (Sum.inl (d20, v2, s0)))
noncomputable def fX2_condition_78 (d : Dt) (a1 v2 : Int) : Option ((Dt × Int × Int) ⊕ (Dt × Option Int)) :=
  (if (fX2_isWordHere d 15) = 0 then (if (fX2_isWordHere d 14) = 0 then fX2_condition_101 d a1 v2 0 else fX2_condition_101 d a1 v2 1) else fX2_condition_101 d a1 v2 1)
noncomputable def fX2_condition_35f (a1 : Int) (s : Dt × Int) : Option ((Dt × Int) ⊕ ((Dt × Int × Int) ⊕ (Dt × Option Int))) := match s with
  | (d, v2) => (if v2 ≤ 0 then up (fX2_condition_78 d a1 v2) else (if (fX2_isSign d 41) = 0 then up (fX2_condition_78 d a1 v2) else bd (fX2_joins d a1) fun d24 => sd d24 10 15 (w32 ((d24 10 15) - 1)) fun d26 => lv (w32 (v2 + (-1))) fun x27 => bd (fX2_take d26) fun d28 => bd (fX2_turns d28 a1) fun d30 => some (Sum.inl (d30, x27))))
noncomputable def fX2_condition_35 (d : Dt) (a1 v2 : Int) : Option ((Dt × Int × Int) ⊕ (Dt × Option Int)) := loop (fX2_condition_35f a1) (d, v2)
noncomputable def fX2_condition_22f (a1 : Int) (s : Dt × Int × Int) : Option ((Dt × Int × Int) ⊕ (Dt × Option Int)) := match s with
  | (d, v2, v3) => (if v3 = 0 then up ((if v2 ≤ 0 then bd (fX2_joins d a1) fun d7 => some (d7, some 0) else b2 (fX2_bad d) fun d9 x11 => some (d9, none))) else bx (fX2_operand d a1 v2) (fun d12 => some (Sum.inr (d12, none))) fun d12 x14 => lv (w32 (v2 + x14)) fun x16 => fX2_condition_35 d12 a1 x16)
noncomputable def fX2_condition_22 (d : Dt) (a1 v2 v3 : Int) : Option (Dt × Option Int) := loop (fX2_condition_22f a1) (d, v2, v3)
noncomputable def fX2_condition (d : Dt) (a1 : Int) : Option (Dt × Option Int) :=
  bd (fX5_begin d a1 (d 10 13)) fun d1 => sd d1 10 15 0 fun d3 => sd d3 10 16 0 fun d4 => fX2_condition_22 d4 a1 0 1
noncomputable def fX2_clause_40 (d : Dt) (v1 v2 s1 : Int) : Option (Dt × Option Int) :=
  bd (fX2_note d s1 v1) fun d9 => ck (0 ≤ v2 ∧ v2 < 7) <| sd d9 12 v2 (1 % 2) fun d12 => (if v2 = 0 then bx (fX2_days d12) (fun d14 => some (d14, none)) fun d14 x16 => some (d14, some 0) else (if v2 = 1 then lv (d12 10 10) fun x19 => ck (x19 ≠ 0) <| sd d12 x19 1 1 fun d22 => some (d22, some 0) else (if v2 = 2 then lv (d12 10 10) fun x24 => ck (x24 ≠ 0) <| bx (fX2_condition d12 (x24 + 2)) (fun d27 => some (d27, none)) fun d27 x29 => some (d27, some 0) else (if v2 = 3 then lv (d12 10 10) fun x32 => ck (x32 ≠ 0) <| bx (fX2_condition d12 (x32 + 4)) (fun d35 => some (d35, none)) fun d35 x37 => some (d35, some 0) else (if v2 = 4 then lv (d12 10 10) fun x40 => ck (x40 ≠ 0) <| bx (fX2_number_2 d12 0 20) (fun d43 => some (d43, none)) fun d43 x45 => sd d43 x40 3 x45 fun d47 => (if (fX2_isWordHere d47 8) = 0 then some (d47, some 0) else bd (fX2_take d47) fun d49 => lv (d49 10 10) fun x51 => ck (x51 ≠ 0) <| bx (fX2_number_2 d49 1 20) (fun d54 => some (d54, none)) fun d54 x56 => sd d54 x51 4 x56 fun d58 => some (d58, some 0)) else (if v2 = 5 then lv (d12 10 10) fun x60 => ck (x60 ≠ 0) <| bx (fX2_number_2 d12 0 3) (fun d63 => some (d63, none)) fun d63 x65 => sd d63 x60 5 x65 fun d67 => some (d67, some 0) else lv (d12 10 10) fun x68 => ck (x68 ≠ 0) <| sd d12 x68 2 1 fun d71 => some (d71, some 0)))))))
noncomputable def fX2_clause (d : Dt) : Option (Dt × Option Int) :=
  lv (d 10 5) fun x1 => bx (fX2_oneOf d 0 7) (fun d2 => some (d2, none)) fun d2 x4 => (if x4 = 7 then bx (fX2_contest d2 x1) (fun d72 => some (d72, none)) fun d72 x74 => some (d72, some 0) else ck (0 ≤ x4 ∧ x4 < 7) <| (if (d2 12 x4) = 0 then fX2_clause_40 d2 x1 x4 1 else fX2_clause_40 d2 x1 x4 0))
noncomputable def fX2_all_49 (d : Dt) (s1 : Int) : Option (Dt × Option Int) :=
  bd (fX2_note d s1 (d 10 4)) fun d5 => some (d5, some 0)
noncomputable def fX2_all_4f (s : Dt) : Option ((Dt) ⊕ (Dt × Option Int)) := (fun d => (if (d 10 7) = 0 then up ((if (d 12 0) = 0 then fX2_all_49 d 0 else lv (d 10 10) fun x7 => ck (x7 ≠ 0) <| (if (d x7 14) ≤ 0 then fX2_all_49 d 0 else fX2_all_49 d 1))) else bx (fX2_clause d) (fun d11 => some (Sum.inr (d11, none))) fun d11 x13 => bx (fX2_sign d11 59) (fun d15 => some (Sum.inr (d15, none))) fun d15 x17 => some (Sum.inl d15))) s
noncomputable def fX2_all_4 (d : Dt) : Option (Dt × Option Int) := loop (fX2_all_4f) d
noncomputable def fX2_all (d : Dt) : Option (Dt × Option Int) :=
  bd (fX2_take d) fun d1 => fX2_all_4 d1
noncomputable def fX2_read (d : Dt) (a1 a2 : Int) : Option (Dt × Int) :=
  sd d 10 10 a1 fun d1 => sd d1 10 4 a2 fun d2 => lv (d2 10 10) fun x3 => ck (x3 ≠ 0) <| bd (fX4_begin d2 x3) fun d6 => sd d6 10 6 0 fun d8 => sd d8 10 9 (-1) fun d9 => sd d9 10 13 0 fun d10 => sd d10 10 12 0 fun d11 => bd (fJ4_fill d11 12 7 0) fun d12 => bx (fX2_all d12) (fun d14 => some (d14, (d14 11 0))) fun d14 x16 => some (d14, (d14 10 9))
noncomputable def fX9_begin (d : Dt) (o : Int) : Option Dt :=
  sd d o 0 0 fun d1 => sd d1 o 6 0 fun d2 => sd d2 o 9 0 fun d3 => some d3
noncomputable def fX10_begin (d : Dt) (o : Int) : Option Dt :=
  sd d o 3 0 fun d1 => sd d1 o 4 0 fun d2 => sd d2 o 5 0 fun d3 => some d3
noncomputable def fX0_begin_76f (s : Dt × Int) : Option ((Dt × Int) ⊕ Dt) := match s with
  | (d, v1) => (if 6 < v1 then up (sd d 1 37 0 fun d14 => sd d14 1 42 0 fun d15 => some d15) else ck (0 ≤ v1 ∧ v1 < 7) <| bd (fX10_begin d (677 + 124 * v1)) fun d17 => lv (w32 (v1 + 1)) fun x19 => some (Sum.inl (d17, x19)))
noncomputable def fX0_begin_76 (d : Dt) (v1 : Int) : Option Dt := loop (fX0_begin_76f) (d, v1)
noncomputable def fX0_begin_7f (s : Dt × Int) : Option ((Dt × Int) ⊕ Dt) := match s with
  | (d, v1) => (if 6 ≤ v1 then up (sd d 1 15 0 fun d3 => sd d3 1 17 0 fun d4 => sd d4 1 21 0 fun d5 => sd d5 1 26 0 fun d6 => sd d6 1 30 0 fun d7 => sd d7 1 32 0 fun d8 => bd (fJ4_fill_2 d8 59 60 0) fun d9 => bd (fJ4_fill_2 d9 63 60 (-1)) fun d11 => fX0_begin_76 d11 0) else ck (0 ≤ v1 ∧ v1 < 6) <| bd (fX9_begin d (629 + 8 * v1)) fun d21 => lv (w32 (v1 + 1)) fun x23 => some (Sum.inl (d21, x23)))
noncomputable def fX0_begin_7 (d : Dt) (v1 : Int) : Option Dt := loop (fX0_begin_7f) (d, v1)
noncomputable def fX0_begin (d : Dt) : Option Dt :=
  sd d 1 10 (-1) fun d1 => fX0_begin_7 d1 0
noncomputable def fX0_law (d : Dt) : Option (Dt × Int) :=
  lv (d 1 1) fun x1 => sd d 1 1 0 fun d2 => lv (d2 1 8) fun x3 => ck (x3 ≠ 0) <| b2 (fX2_read d2 x3 x1) fun d6 x8 => (if x8 = (-1) then lv (d6 1 7) fun x10 => ck (x10 ≠ 0) <| lv (d6 1 8) fun x13 => ck (x13 ≠ 0) <| sd d6 1 7 x13 fun d16 => sd d16 1 8 x10 fun d17 => sd d17 1 9 1 fun d18 => bd (fX0_begin d18) fun d19 => lv (d19 1 7) fun x21 => ck (x21 ≠ 0) <| bd (fX0_write d19 7 (d19 x21 14) 0 0 0) fun d24 => lv (d24 1 7) fun x26 => ck (x26 ≠ 0) <| some (d24, (d24 x26 14)) else some (d6, (w32 ((-1000) - x8))))
noncomputable def fX11_textAt (d : Dt) (a1 : Int) : Option Int :=
  (if (d 1545 28) ≤ a1 then some 0 else ck (0 ≤ a1 ∧ a1 < 4000) <| some (d 1546 a1))
noncomputable def fX11_cutSigns_306 (d : Dt) (v1 v5 : Int) : Option ((Dt × Int × Int × Int) ⊕ Dt) :=
  ck (0 ≤ v1 ∧ v1 < 4002) <| sd d 1567 v1 v5 fun d16 => (if (d16 1565 v1) = 0 then lv (w32 (v1 + 1)) fun x18 => some (Sum.inl (d16, x18, v5, 0)) else (if (d16 1565 v1) = 3 then lv (w32 (v1 + 1)) fun x20 => some (Sum.inl (d16, x20, v5, 0)) else lv (w32 (v1 + 1)) fun x21 => some (Sum.inl (d16, x21, v5, 1))))
noncomputable def fX11_cutSigns_305 (d : Dt) (v1 v5 s1 s2 : Int) : Option ((Dt × Int × Int × Int) ⊕ Dt) :=
  ck (0 ≤ s1 ∧ s1 < 4002) <| sd d 1565 s1 s2 fun d14 => fX11_cutSigns_306 d14 v1 v5
noncomputable def fX11_cutSigns_287 (d : Dt) (v1 v4 v5 s0 : Int) : Option ((Dt × Int × Int × Int) ⊕ Dt) :=
  (if s0 = 0 then fX11_cutSigns_305 d v1 v5 v1 3 else fX11_cutSigns_305 d v1 v5 v1 v4)
noncomputable def fX11_cutSigns_229 (d : Dt) (v1 v5 s1 s2 : Int) : Option ((Dt × Int × Int × Int) ⊕ Dt) :=
  ck (0 ≤ s1 ∧ s1 < 4002) <| sd d 1568 s1 s2 fun d36 => fX11_cutSigns_306 d36 v1 v5
noncomputable def fX11_cutSigns_155f (d : Dt) (v1 v2 : Int) (s : Int × Int) : Option ((Int × Int) ⊕ ((Dt × Int × Int × Int) ⊕ Dt)) := match s with
  | (v5, v6) => b1 (fX11_textAt d v5) fun x29 => (if (fX11_in x29 48 57) = 0 then up (ck (0 ≤ v1 ∧ v1 < 4002) <| sd d 1565 v1 2 fun d33 => (if (w32 (v5 - v2)) ≤ 5 then fX11_cutSigns_229 d33 v1 v5 v1 v6 else fX11_cutSigns_229 d33 v1 v5 v1 99999)) else b1 (fX11_textAt d v5) fun x37 => lv (fJ9_min 99999 (w32 ((w32 ((w32 (10 * v6)) + x37)) - 48))) fun x39 => lv (w32 (v5 + 1)) fun x40 => some (Sum.inl (x40, x39)))
noncomputable def fX11_cutSigns_155 (d : Dt) (v1 v2 v5 v6 : Int) : Option ((Dt × Int × Int × Int) ⊕ Dt) := loop (fX11_cutSigns_155f d v1 v2) (v5, v6)
noncomputable def fX11_cutSigns_98f (d : Dt) (v1 : Int) (s : Int) : Option ((Int) ⊕ ((Dt × Int × Int × Int) ⊕ Dt)) := (fun v5 => b1 (fX11_textAt d v5) fun x41 => (if (fX11_in x41 65 90) = 0 then up (ck (0 ≤ v1 ∧ v1 < 4002) <| sd d 1565 v1 1 fun d45 => fX11_cutSigns_306 d45 v1 v5) else lv (w32 (v5 + 1)) fun x46 => some (Sum.inl x46))) s
noncomputable def fX11_cutSigns_98 (d : Dt) (v1 v5 : Int) : Option ((Dt × Int × Int × Int) ⊕ Dt) := loop (fX11_cutSigns_98f d v1) v5
noncomputable def fX11_cutSigns_46 (d : Dt) (v1 v2 : Int) : Option ((Dt × Int × Int × Int) ⊕ Dt) :=
  ck (0 ≤ v1 ∧ v1 < 4002) <| sd d 1566 v1 v2 fun d4 => b1 (fX11_textAt d4 v2) fun x5 => lv (w32 (v2 + 1)) fun x7 => (if v2 = (d4 1545 28) then sd d4 1565 v1 0 fun d47 => fX11_cutSigns_306 d47 v1 x7 else (if (fX11_in x5 65 90) = 0 then (if (fX11_in x5 48 57) = 0 then (if x5 = 40 then fX11_cutSigns_287 d4 v1 x5 x7 1 else (if x5 = 41 then fX11_cutSigns_287 d4 v1 x5 x7 1 else (if x5 = 44 then fX11_cutSigns_287 d4 v1 x5 x7 1 else (if x5 = 59 then fX11_cutSigns_287 d4 v1 x5 x7 1 else (if x5 = 43 then fX11_cutSigns_287 d4 v1 x5 x7 1 else (if x5 = 45 then fX11_cutSigns_287 d4 v1 x5 x7 1 else (if x5 = 47 then fX11_cutSigns_287 d4 v1 x5 x7 1 else fX11_cutSigns_287 d4 v1 x5 x7 0))))))) else lv (w32 (x5 - 48)) fun x28 => fX11_cutSigns_155 d4 v1 v2 x7 x28) else fX11_cutSigns_98 d4 v1 x7))
noncomputable def fX11_cutSigns_10f (d : Dt) (v1 : Int) (s : Int) : Option ((Int) ⊕ ((Dt × Int × Int × Int) ⊕ Dt)) := (fun v2 => (if (d 1545 28) ≤ v2 then up (fX11_cutSigns_46 d v1 v2) else ck (0 ≤ v2 ∧ v2 < 4000) <| (if (d 1546 v2) = 32 then lv (w32 (v2 + 1)) fun x50 => some (Sum.inl x50) else (if (d 1546 v2) = 10 then lv (w32 (v2 + 1)) fun x52 => some (Sum.inl x52) else up (fX11_cutSigns_46 d v1 v2))))) s
noncomputable def fX11_cutSigns_10 (d : Dt) (v1 v2 : Int) : Option ((Dt × Int × Int × Int) ⊕ Dt) := loop (fX11_cutSigns_10f d v1) v2
noncomputable def fX11_cutSigns_6f (s : Dt × Int × Int × Int) : Option ((Dt × Int × Int × Int) ⊕ Dt) := match s with
  | (d, v1, v2, v3) => (if v3 = 0 then up (some d) else fX11_cutSigns_10 d v1 v2)
noncomputable def fX11_cutSigns_6 (d : Dt) (v1 v2 v3 : Int) : Option Dt := loop (fX11_cutSigns_6f) (d, v1, v2, v3)
noncomputable def fX11_cutSigns (d : Dt) : Option Dt :=
  fX11_cutSigns_6 d 0 0 1
noncomputable def fX11_isSign (d : Dt) (a1 : Int) : Option Int :=
  lv (d 1545 29) fun x1 => ck (0 ≤ x1 ∧ x1 < 4002) <| (if (d 1565 x1) = a1 then some 1 else some 0)
def fX11_clauseName_80 (a1 s0 : Int) : Int :=
  s0
def fX11_clauseName (a1 : Int) : Int :=
  (if a1 = 0 then fX11_clauseName_80 a1 (-10) else (if a1 = 1 then fX11_clauseName_80 a1 (-12) else (if a1 = 2 then fX11_clauseName_80 a1 (-14) else (if a1 = 3 then fX11_clauseName_80 a1 (-16) else (if a1 = 4 then fX11_clauseName_80 a1 (-18) else (if a1 = 5 then fX11_clauseName_80 a1 (-20) else (if a1 = 6 then fX11_clauseName_80 a1 (-22) else fX11_clauseName_80 a1 (-24))))))))
noncomputable def fX11_isWord_43f (d : Dt) (a1 : Int) (s : Int) : Option ((Int) ⊕ Int) := (fun v2 => (if (sLen a1) ≤ v2 then up (some 1) else lv (d 1545 29) fun x10 => ck (0 ≤ x10 ∧ x10 < 4002) <| lv (w32 ((d 1566 x10) + v2)) fun x12 => ck (0 ≤ x12 ∧ x12 < 4000) <| ck (0 ≤ v2 ∧ v2 < sLen a1) <| (if (d 1546 x12) = (sAt a1 v2) then lv (w32 (v2 + 1)) fun x16 => some (Sum.inl x16) else up (some 0)))) s
noncomputable def fX11_isWord_43 (d : Dt) (a1 v2 : Int) : Option Int := loop (fX11_isWord_43f d a1) v2
noncomputable def fX11_isWord (d : Dt) (a1 : Int) : Option Int :=
  lv (d 1545 29) fun x1 => ck (0 ≤ x1 ∧ x1 < 4002) <| (if (d 1565 x1) = 1 then lv (d 1545 29) fun x4 => ck (0 ≤ x4 ∧ x4 < 4002) <| lv (d 1545 29) fun x6 => ck (0 ≤ x6 ∧ x6 < 4002) <| (if (w32 ((d 1567 x4) - (d 1566 x6))) = (sLen a1) then fX11_isWord_43 d a1 0 else some 0) else some 0)
noncomputable def fX11_mayWord_20 (d : Dt) (a1 v2 s1 s2 : Int) : Option (Dt × Int) :=
  sd d 1545 29 (w32 (s1 + s2)) fun d4 => (ck (v2 = 0 ∨ v2 = 1) <| some (d4, v2))
noncomputable def fX11_mayWord (d : Dt) (a1 : Int) : Option (Dt × Int) :=
  b1 (fX11_isWord d a1) fun x1 => (if x1 = 0 then fX11_mayWord_20 d a1 x1 (d 1545 29) 0 else fX11_mayWord_20 d a1 x1 (d 1545 29) 1)
noncomputable def fX11_miss (d : Dt) : Option (Dt × Int) :=
  lv (d 1545 29) fun x1 => ck (0 ≤ x1 ∧ x1 < 4002) <| sd d 1545 30 (d 1566 x1) fun d3 => some (d3, 0)
noncomputable def fX11_blame (d : Dt) (a1 : Int) : Option Dt :=
  sd d 1545 31 (fJ9_min (d 1545 31) a1) fun d1 => some d1
noncomputable def fX11_takeSign (d : Dt) (a1 : Int) : Option (Dt × Int) :=
  b1 (fX11_isSign d a1) fun x1 => (if x1 = 0 then b2 (fX11_miss d) fun d5 x7 => (ck (x7 = 0 ∨ x7 = 1) <| some (d5, x7)) else sd d 1545 29 (w32 ((d 1545 29) + 1)) fun d4 => some (d4, 1))
noncomputable def fX11_takeNumber_75 (d : Dt) : Option (Dt × Int) :=
  sd d 1545 29 (w32 ((d 1545 29) + 1)) fun d15 => some (d15, 1)
noncomputable def fX11_takeNumber (d : Dt) : Option (Dt × Int) :=
  lv (d 1545 29) fun x1 => ck (0 ≤ x1 ∧ x1 < 4002) <| (if (d 1565 x1) = 2 then lv (d 1545 29) fun x4 => ck (0 ≤ x4 ∧ x4 < 4002) <| sd d 1545 32 (d 1568 x4) fun d6 => lv (d6 1545 29) fun x7 => ck (0 ≤ x7 ∧ x7 < 4002) <| sd d6 1545 33 (d6 1566 x7) fun d9 => lv (d9 1545 29) fun x10 => ck (0 ≤ x10 ∧ x10 < 4002) <| lv (d9 1545 29) fun x12 => ck (0 ≤ x12 ∧ x12 < 4002) <| (if (w32 ((d9 1567 x10) - (d9 1566 x12))) ≤ 5 then fX11_takeNumber_75 d9 else bd (fX11_blame d9 (d9 1545 33)) fun d16 => fX11_takeNumber_75 d16) else b2 (fX11_miss d) fun d18 x20 => (ck (x20 = 0 ∨ x20 = 1) <| some (d18, x20)))
noncomputable def fX11_easterOf (a1 : Int) : Option Int :=
  lv (Int.tmod a1 19) fun x1 => lv (w32 (Int.tdiv a1 100)) fun x2 => lv (Int.tmod a1 100) fun x3 => lv (w32 (Int.tdiv (w32 ((w32 (x2 - (w32 (Int.tdiv (w32 (x2 + 8)) 25)))) + 1)) 3)) fun x4 => lv (Int.tmod (w32 ((w32 ((w32 ((w32 ((w32 (19 * x1)) + x2)) - (w32 (Int.tdiv x2 4)))) - x4)) + 15)) 30) fun x5 => lv (Int.tmod (w32 ((w32 ((w32 ((w32 (32 + (w32 (2 * (Int.tmod x2 4))))) + (w32 (2 * (w32 (Int.tdiv x3 4)))))) - x5)) - (Int.tmod x3 4))) 7) fun x6 => lv (w32 (Int.tdiv (w32 ((w32 (x1 + (w32 (11 * x5)))) + (w32 (22 * x6)))) 451)) fun x7 => lv (w32 ((w32 ((w32 (x5 + x6)) - (w32 (7 * x7)))) + 114)) fun x8 => b1 (fX11_dayOf a1 (w32 (Int.tdiv x8 31)) (w32 ((Int.tmod x8 31) + 1))) fun x9 => some x9
noncomputable def fX11_takePlain_64 (d : Dt) (a1 s1 : Int) : Option (Dt × Int) :=
  sd d 1545 34 s1 fun d18 => some (d18, 1)
noncomputable def fX11_takePlain (d : Dt) (a1 : Int) : Option (Dt × Int) :=
  sd d 1545 29 (w32 ((d 1545 29) + 1)) fun d1 => b2 (fX11_takeNumber d1) fun d2 x4 => (if x4 = 0 then some (d2, 0) else lv (d2 1545 32) fun x6 => b2 (fX11_takeSign d2 45) fun d7 x9 => (if x9 = 0 then some (d7, 0) else b2 (fX11_takeNumber d7) fun d11 x13 => (if x13 = 0 then some (d11, 0) else (if 2000 ≤ a1 then b1 (fX11_dayOf a1 x6 (d11 1545 32)) fun x16 => fX11_takePlain_64 d11 a1 x16 else fX11_takePlain_64 d11 a1 (-2147483648)))))
def fX11_weekdayName_61 (a1 s0 : Int) : Int :=
  s0
def fX11_weekdayName (a1 : Int) : Int :=
  (if a1 = 0 then fX11_weekdayName_61 a1 (-58) else (if a1 = 1 then fX11_weekdayName_61 a1 (-60) else (if a1 = 2 then fX11_weekdayName_61 a1 (-62) else (if a1 = 3 then fX11_weekdayName_61 a1 (-64) else (if a1 = 4 then fX11_weekdayName_61 a1 (-66) else (if a1 = 5 then fX11_weekdayName_61 a1 (-68) else fX11_weekdayName_61 a1 (-70)))))))
noncomputable def fX11_takeWeekday_2f (s : Dt × Int) : Option ((Dt × Int) ⊕ (Dt × Int)) := match s with
  | (d, v1) => (if 7 ≤ v1 then up (some (d, (-1))) else b2 (fX11_mayWord d (fX11_weekdayName v1)) fun d2 x4 => (if x4 = 0 then lv (w32 (v1 + 1)) fun x6 => some (Sum.inl (d2, x6)) else up (some (d2, v1))))
noncomputable def fX11_takeWeekday_2 (d : Dt) (v1 : Int) : Option (Dt × Int) := loop (fX11_takeWeekday_2f) (d, v1)
noncomputable def fX11_takeWeekday (d : Dt) : Option (Dt × Int) :=
  fX11_takeWeekday_2 d 0
noncomputable def fX11_weekdayOf (a1 : Int) : Option Int :=
  b1 (fJ9_floorMod (w32 (a1 + 5)) 7) fun x1 => some x1
noncomputable def fX11_nthOf_38 (a1 a2 a3 a4 : Int) : Option Int :=
  some (-2147483648)
noncomputable def fX11_nthOf_51f (a1 a2 a3 a4 : Int) (s : Int × Int × Int) : Option ((Int × Int × Int) ⊕ Int) := match s with
  | (v4, v5, v6) => (if (fX11_monthDays a3 a4) < v6 then up (some v4) else b1 (fX11_dayOf a3 a4 v6) fun x5 => b1 (fX11_weekdayOf x5) fun x7 => (if x7 = a2 then lv (w32 (v5 + 1)) fun x10 => (if a1 = 6 then lv (w32 (v6 + 1)) fun x12 => some (Sum.inl (x5, x10, x12)) else (if x10 = a1 then lv (w32 (v6 + 1)) fun x15 => some (Sum.inl (x5, x10, x15)) else lv (w32 (v6 + 1)) fun x14 => some (Sum.inl (v4, x10, x14)))) else lv (w32 (v6 + 1)) fun x16 => some (Sum.inl (v4, v5, x16))))
noncomputable def fX11_nthOf_51 (a1 a2 a3 a4 v4 v5 v6 : Int) : Option Int := loop (fX11_nthOf_51f a1 a2 a3 a4) (v4, v5, v6)
noncomputable def fX11_nthOf (a1 a2 a3 a4 : Int) : Option Int :=
  (if (fX11_in a3 2000 2099) = 0 then fX11_nthOf_38 a1 a2 a3 a4 else (if (fX11_in a4 1 12) = 0 then fX11_nthOf_38 a1 a2 a3 a4 else (if (fX11_in a1 1 6) = 0 then fX11_nthOf_38 a1 a2 a3 a4 else fX11_nthOf_51 a1 a2 a3 a4 (-2147483648) 0 1)))
noncomputable def fX11_takeDate_142 (d : Dt) (v2 : Int) : Option (Dt × Int) :=
  b2 (fX11_takeWeekday d) fun d16 x18 => (if 0 ≤ x18 then b2 (fX11_takeNumber d16) fun d20 x22 => (if x22 = 0 then some (d20, 0) else lv (d20 1545 32) fun x24 => b2 (fX11_takeNumber d20) fun d25 x27 => (if x27 = 0 then some (d25, 0) else b1 (fX11_nthOf v2 x18 (d25 1545 32) x24) fun x29 => sd d25 1545 34 x29 fun d31 => some (d31, 1))) else b2 (fX11_miss d16) fun d32 x34 => (ck (x34 = 0 ∨ x34 = 1) <| some (d32, x34)))
noncomputable def fX11_takeDate_119 (d : Dt) (v1 s0 : Int) : Option (Dt × Int) :=
  (if v1 = 0 then b1 (fX11_isSign d 45) fun x35 => (if x35 = 0 then fX11_takeDate_142 d s0 else b2 (fX11_takePlain d (d 1545 32)) fun d38 x40 => (ck (x40 = 0 ∨ x40 = 1) <| some (d38, x40))) else fX11_takeDate_142 d s0)
noncomputable def fX11_takeDate_94 (d : Dt) (v1 : Int) : Option (Dt × Int) :=
  (if v1 = 0 then (if (d 1545 32) ≤ 5 then fX11_takeDate_119 d v1 (d 1545 32) else fX11_takeDate_119 d v1 0) else fX11_takeDate_119 d v1 6)
noncomputable def fX11_takeDate_68 (d : Dt) (s1 : Int) : Option (Dt × Int) :=
  sd d 1545 34 s1 fun d50 => some (d50, 1)
noncomputable def fX11_takeDate (d : Dt) : Option (Dt × Int) :=
  lv (d 1545 29) fun x1 => ck (0 ≤ x1 ∧ x1 < 4002) <| sd d 1545 35 (d 1566 x1) fun d3 => sd d3 1545 34 (-2147483648) fun d4 => b2 (fX11_mayWord d4 (-36)) fun d5 x7 => (if x7 = 0 then b2 (fX11_mayWord d5 (-34)) fun d9 x11 => (if x11 = 0 then b2 (fX11_takeNumber d9) fun d41 x43 => (if x43 = 0 then some (d41, 0) else fX11_takeDate_94 d41 x11) else fX11_takeDate_94 d9 x11) else b2 (fX11_takeNumber d5) fun d45 x47 => (if x47 = 0 then some (d45, 0) else (if (fX11_in (d45 1545 32) 2000 2099) = 0 then fX11_takeDate_68 d45 (-2147483648) else b1 (fX11_easterOf (d45 1545 32)) fun x51 => fX11_takeDate_68 d45 x51)))
noncomputable def fX11_takeTime_109 (d : Dt) (v1 s1 : Int) : Option ((Dt × Int) ⊕ (Dt × Int)) :=
  sd d 1545 34 s1 fun d19 => (if v1 = 0 then some (Sum.inl (d19, v1)) else (if (fX11_in (d19 1545 34) 0 36524) = 0 then bd (fX11_blame d19 (d19 1545 35)) fun d22 => some (Sum.inl (d22, 0)) else some (Sum.inl (d19, v1))))
noncomputable def fX11_takeTime_68 (d : Dt) (v1 s0 : Int) : Option ((Dt × Int) ⊕ (Dt × Int)) :=
  sd d 1545 29 (w32 ((d 1545 29) + 1)) fun d13 => b2 (fX11_takeNumber d13) fun d14 x16 => (if x16 = 0 then up (some (d14, 0)) else (if v1 = 0 then fX11_takeTime_109 d14 v1 (-2147483648) else fX11_takeTime_109 d14 v1 (w32 ((d14 1545 34) + (w32 (s0 * (d14 1545 32)))))))
noncomputable def fX11_takeTime_54 (d : Dt) (v1 : Int) : Option ((Dt × Int) ⊕ (Dt × Int)) :=
  b1 (fX11_isSign d 43) fun x10 => (if x10 = 0 then fX11_takeTime_68 d v1 (-1) else fX11_takeTime_68 d v1 1)
noncomputable def fX11_takeTime_36f (s : Dt × Int) : Option ((Dt × Int) ⊕ (Dt × Int)) := match s with
  | (d, v1) => b1 (fX11_isSign d 43) fun x7 => (if x7 = 0 then b1 (fX11_isSign d 45) fun x24 => (if x24 = 0 then up (some (d, 1)) else fX11_takeTime_54 d v1) else fX11_takeTime_54 d v1)
noncomputable def fX11_takeTime_36 (d : Dt) (v1 : Int) : Option (Dt × Int) := loop (fX11_takeTime_36f) (d, v1)
noncomputable def fX11_takeTime_23 (d : Dt) (s0 : Int) : Option (Dt × Int) :=
  (if s0 = 0 then bd (fX11_blame d (d 1545 35)) fun d27 => fX11_takeTime_36 d27 s0 else fX11_takeTime_36 d s0)
noncomputable def fX11_takeTime (d : Dt) : Option (Dt × Int) :=
  b2 (fX11_takeDate d) fun d1 x3 => (if x3 = 0 then some (d1, 0) else (if (d1 1545 34) = (-2147483648) then fX11_takeTime_23 d1 0 else fX11_takeTime_23 d1 1))
noncomputable def fX11_takeDays_50 (d : Dt) (v2 : Int) : Option ((Dt × Int × Int) ⊕ (Dt × Int)) :=
  lv (d 1545 34) fun x8 => ck (0 ≤ v2 ∧ v2 < 20) <| sd d 1576 v2 (d 1545 34) fun d10 => lv (w32 (v2 + 1)) fun x11 => some (Sum.inl (d10, x8, x11))
noncomputable def fX11_takeDays_25 (d : Dt) (v1 v2 : Int) : Option ((Dt × Int × Int) ⊕ (Dt × Int)) :=
  b2 (fX11_takeTime d) fun d3 x5 => (if x5 = 0 then up (some (d3, 0)) else (if v1 ≤ (d3 1545 34) then fX11_takeDays_50 d3 v2 else bd (fX11_blame d3 (d3 1545 35)) fun d12 => fX11_takeDays_50 d12 v2))
noncomputable def fX11_takeDays_5f (s : Dt × Int × Int) : Option ((Dt × Int × Int) ⊕ (Dt × Int)) := match s with
  | (d, v1, v2) => (if 4 ≤ v2 then up (some (d, 1)) else (if v2 ≤ 0 then fX11_takeDays_25 d v1 v2 else b2 (fX11_takeSign d 44) fun d14 x16 => (if x16 = 0 then up (some (d14, 0)) else fX11_takeDays_25 d14 v1 v2)))
noncomputable def fX11_takeDays_5 (d : Dt) (v1 v2 : Int) : Option (Dt × Int) := loop (fX11_takeDays_5f) (d, v1, v2)
noncomputable def fX11_takeDays (d : Dt) : Option (Dt × Int) :=
  fX11_takeDays_5 d (-2147483648) 0
noncomputable def fX11_addStep (d : Dt) (a1 a2 : Int) : Option Dt :=
  ck (0 ≤ a1 ∧ a1 < 4) <| lv (w32 ((w32 (4002 * a1)) + (d 1570 a1))) fun x2 => ck (0 ≤ x2 ∧ x2 < 16008) <| sd d 1569 x2 a2 fun d4 => sd d4 1570 a1 (w32 ((d4 1570 a1) + 1)) fun d5 => some d5
noncomputable def fX11_takeWithin (d : Dt) (a1 a2 : Int) : Option (Dt × Int) :=
  b2 (fX11_takeNumber d) fun d1 x3 => (if x3 = 0 then some (d1, 0) else (if (fX11_in (d1 1545 32) a1 a2) = 0 then bd (fX11_blame d1 (d1 1545 33)) fun d6 => some (d6, 1) else some (d1, 1)))
noncomputable def fX11_takeTest_215 (d : Dt) (a1 v2 v3 v6 v7 v8 : Int) : Option (Dt × Int) :=
  sd d 1571 0 (w32 (v8 + 1)) fun d33 => ck (0 ≤ v8 ∧ v8 < 82) <| sd d33 1572 v8 v3 fun d35 => sd d35 1573 v8 v6 fun d36 => sd d36 1574 v8 v7 fun d37 => sd d37 1575 v8 v2 fun d38 => bd (fX11_addStep d38 a1 v8) fun d39 => some (d39, 1)
noncomputable def fX11_takeTest_186 (d : Dt) (a1 v2 v3 v6 v7 : Int) : Option (Dt × Int) :=
  lv (fJ9_min (d 1571 0) 40) fun x31 => (if (d 1571 0) < 40 then fX11_takeTest_215 d a1 v2 v3 v6 v7 x31 else bd (fX11_blame d v2) fun d41 => fX11_takeTest_215 d41 a1 v2 v3 v6 v7 x31)
noncomputable def fX11_takeTest_136 (d : Dt) (a1 v2 v3 v4 s0 : Int) : Option (Dt × Int) :=
  b2 (fX11_takeWithin d v4 s0) fun d22 x24 => (if x24 = 0 then some (d22, 0) else lv (d22 1545 32) fun x26 => b2 (fX11_mayWord d22 (-50)) fun d27 x29 => (if x29 = 0 then fX11_takeTest_186 d27 a1 v2 v3 x26 (-2147483648) else b2 (fX11_takeTime d27) fun d43 x45 => (if x45 = 0 then some (d43, 0) else lv (d43 1545 34) fun x47 => fX11_takeTest_186 d43 a1 v2 v3 x26 x47)))
noncomputable def fX11_takeTest_97 (d : Dt) (a1 v2 v3 s0 : Int) : Option (Dt × Int) :=
  (if v3 = 0 then fX11_takeTest_136 d a1 v2 v3 s0 150 else (if v3 = 1 then fX11_takeTest_136 d a1 v2 v3 s0 400 else (if v3 = 2 then fX11_takeTest_136 d a1 v2 v3 s0 (w32 ((d 1545 3) - 1)) else fX11_takeTest_136 d a1 v2 v3 s0 9)))
noncomputable def fX11_takeTest_67 (d : Dt) (a1 v2 s0 : Int) : Option (Dt × Int) :=
  (if 0 ≤ s0 then sd d 1545 29 (w32 ((d 1545 29) + 1)) fun d17 => (if s0 = 1 then fX11_takeTest_97 d17 a1 v2 s0 1 else fX11_takeTest_97 d17 a1 v2 s0 0) else b2 (fX11_miss d) fun d48 x50 => (ck (x50 = 0 ∨ x50 = 1) <| some (d48, x50)))
noncomputable def fX11_takeTest (d : Dt) (a1 : Int) : Option (Dt × Int) :=
  lv (d 1545 29) fun x1 => ck (0 ≤ x1 ∧ x1 < 4002) <| lv (d 1566 x1) fun x3 => b1 (fX11_isWord d (-44)) fun x4 => (if x4 = 0 then b1 (fX11_isWord d (-46)) fun x7 => (if x7 = 0 then b1 (fX11_isWord d (-28)) fun x10 => (if x10 = 0 then b1 (fX11_isWord d (-48)) fun x13 => (if x13 = 0 then fX11_takeTest_67 d a1 x3 (-1) else fX11_takeTest_67 d a1 x3 3) else fX11_takeTest_67 d a1 x3 2) else fX11_takeTest_67 d a1 x3 1) else fX11_takeTest_67 d a1 x3 0)
noncomputable def fX11_takeCondition_187 (d : Dt) (a1 v2 s1 s2 : Int) : Option ((Dt × Int) ⊕ (Dt × Int)) :=
  bd (fX11_addStep d s1 s2) fun d18 => sd d18 1545 29 (w32 ((d18 1545 29) + 1)) fun d20 => some (Sum.inl (d20, v2))
noncomputable def fX11_takeCondition_174 (d : Dt) (a1 v2 v3 : Int) : Option ((Dt × Int) ⊕ (Dt × Int)) :=
  (if v3 = 0 then fX11_takeCondition_187 d a1 v2 a1 (-5) else fX11_takeCondition_187 d a1 v2 a1 (-4))
noncomputable def fX11_takeCondition_135 (d : Dt) (a1 v2 : Int) : Option ((Dt × Int) ⊕ (Dt × Int)) :=
  b1 (fX11_isWord d (-40)) fun x14 => (if x14 = 0 then b1 (fX11_isWord d (-38)) fun x21 => (if x21 = 0 then up ((if v2 = 0 then some (d, 1) else b2 (fX11_miss d) fun d25 x27 => (if x27 = 0 then some (d25, 0) else some (d25, 1)))) else fX11_takeCondition_174 d a1 v2 x14) else fX11_takeCondition_174 d a1 v2 x14)
noncomputable def fX11_takeCondition_99f (a1 : Int) (s : Dt × Int) : Option ((Dt × Int) ⊕ ((Dt × Int) ⊕ (Dt × Int))) := match s with
  | (d, v2) => (if v2 ≤ 0 then up (fX11_takeCondition_135 d a1 v2) else b1 (fX11_isSign d 41) fun x29 => (if x29 = 0 then up (fX11_takeCondition_135 d a1 v2) else bd (fX11_addStep d a1 (-3)) fun d32 => lv (w32 (v2 + (-1))) fun x34 => sd d32 1545 29 (w32 ((d32 1545 29) + 1)) fun d35 => some (Sum.inl (d35, x34))))
noncomputable def fX11_takeCondition_99 (d : Dt) (a1 v2 : Int) : Option ((Dt × Int) ⊕ (Dt × Int)) := loop (fX11_takeCondition_99f a1) (d, v2)
noncomputable def fX11_takeCondition_69 (d : Dt) (a1 v2 : Int) : Option ((Dt × Int) ⊕ (Dt × Int)) :=
  bd (fX11_addStep d a1 (-2)) fun d38 => sd d38 1545 29 (w32 ((d38 1545 29) + 1)) fun d40 => some (Sum.inl (d40, v2))
noncomputable def fX11_takeCondition_9f (a1 : Int) (s : Dt × Int) : Option ((Dt × Int) ⊕ (Dt × Int)) := match s with
  | (d, v2) => b1 (fX11_isWord d (-42)) fun x3 => (if x3 = 0 then b1 (fX11_isSign d 40) fun x6 => (if x6 = 0 then b2 (fX11_takeTest d a1) fun d9 x11 => (if x11 = 0 then up (some (d9, 0)) else fX11_takeCondition_99 d9 a1 v2) else lv (w32 (v2 + 1)) fun x36 => (if x36 ≤ 30 then fX11_takeCondition_69 d a1 x36 else lv (d 1545 29) fun x41 => ck (0 ≤ x41 ∧ x41 < 4002) <| bd (fX11_blame d (d 1566 x41)) fun d43 => fX11_takeCondition_69 d43 a1 x36)) else bd (fX11_addStep d a1 (-1)) fun d45 => sd d45 1545 29 (w32 ((d45 1545 29) + 1)) fun d47 => some (Sum.inl (d47, v2)))
noncomputable def fX11_takeCondition_9 (d : Dt) (a1 v2 : Int) : Option (Dt × Int) := loop (fX11_takeCondition_9f a1) (d, v2)
noncomputable def fX11_takeCondition (d : Dt) (a1 : Int) : Option (Dt × Int) :=
  ck (0 ≤ a1 ∧ a1 < 4) <| sd d 1570 a1 0 fun d2 => fX11_takeCondition_9 d2 a1 0
noncomputable def fX11_takeSignatures (d : Dt) : Option (Dt × Int) :=
  b2 (fX11_takeWithin d 0 20) fun d1 x3 => (if x3 = 0 then some (d1, 0) else sd d1 1576 5 (d1 1545 32) fun d5 => sd d5 1576 6 1 fun d6 => b2 (fX11_mayWord d6 (-26)) fun d7 x9 => (if x9 = 0 then some (d7, 1) else b2 (fX11_takeWithin d7 1 20) fun d11 x13 => (if x13 = 0 then some (d11, 0) else sd d11 1576 6 (d11 1545 32) fun d15 => some (d15, 1))))
noncomputable def fX11_takeWord (d : Dt) (a1 : Int) : Option (Dt × Int) :=
  b1 (fX11_isWord d a1) fun x1 => (if x1 = 0 then b2 (fX11_miss d) fun d5 x7 => (ck (x7 = 0 ∨ x7 = 1) <| some (d5, x7)) else sd d 1545 29 (w32 ((d 1545 29) + 1)) fun d4 => some (d4, 1))
def fX11_ruleName (a1 : Int) : Int :=
  (if a1 = 0 then (-72) else (if a1 = 1 then (-74) else (if a1 = 2 then (-76) else (if a1 = 3 then (-78) else (if a1 = 4 then (-80) else (if a1 = 5 then (-82) else (if a1 = 6 then (-84) else (if a1 = 7 then (-86) else (if a1 = 8 then (-88) else (if a1 = 9 then (-90) else (if a1 = 10 then (-92) else (if a1 = 11 then (-94) else (if a1 = 12 then (-96) else (if a1 = 13 then (-98) else (-100)))))))))))))))
def fX11_wayName (a1 : Int) : Int :=
  (if a1 = 0 then (-102) else (if a1 = 1 then (-104) else (if a1 = 2 then (-106) else (if a1 = 3 then (-108) else (if a1 = 4 then (-110) else (if a1 = 5 then (-112) else (if a1 = 6 then (-114) else (if a1 = 7 then (-116) else (-118)))))))))
noncomputable def fX11_takeLists_207 (d : Dt) (a1 : Int) : Option (Dt × Int) :=
  sd d 1545 49 1 fun d20 => lv (w32 (a1 + 7)) fun x21 => ck (0 ≤ x21 ∧ x21 < 96) <| sd d20 1577 x21 1 fun d23 => sd d23 1545 29 (w32 ((d23 1545 29) + 1)) fun d24 => some (d24, 1)
noncomputable def fX11_takeLists_176 (d : Dt) (a1 s1 s2 : Int) : Option (Dt × Int) :=
  ck (0 ≤ s1 ∧ s1 < 96) <| sd d 1577 s1 s2 fun d15 => b1 (fX11_isWord d15 (-56)) fun x16 => (if x16 = 0 then some (d15, 1) else (if (d15 1545 49) = 0 then fX11_takeLists_207 d15 a1 else lv (d15 1545 29) fun x25 => ck (0 ≤ x25 ∧ x25 < 4002) <| bd (fX11_blame d15 (d15 1566 x25)) fun d27 => fX11_takeLists_207 d27 a1))
noncomputable def fX11_takeLists_153 (d : Dt) (a1 : Int) : Option (Dt × Int) :=
  b2 (fX11_mayWord d (-54)) fun d10 x12 => (if x12 = 0 then fX11_takeLists_176 d10 a1 (w32 (a1 + 6)) 0 else fX11_takeLists_176 d10 a1 (w32 (a1 + 6)) 1)
noncomputable def fX11_takeLists_132 (d : Dt) (a1 v3 : Int) : Option (Dt × Int) :=
  lv (w32 (a1 + 4)) fun x46 => ck (0 ≤ x46 ∧ x46 < 96) <| sd d 1577 x46 v3 fun d48 => lv (w32 (a1 + 5)) fun x49 => ck (0 ≤ x49 ∧ x49 < 96) <| sd d48 1577 x49 (d48 1545 32) fun d51 => fX11_takeLists_153 d51 a1
noncomputable def fX11_takeLists_126 (d : Dt) (a1 v3 v4 : Int) : Option (Dt × Int) :=
  bd (fX11_blame d v4) fun d44 => fX11_takeLists_132 d44 a1 v3
noncomputable def fX11_takeLists_37 (d : Dt) (a1 v2 : Int) : Option (Dt × Int) :=
  (if 0 ≤ v2 then lv (w32 (a1 + 3)) fun x3 => ck (0 ≤ x3 ∧ x3 < 96) <| sd d 1577 x3 v2 fun d5 => b2 (fX11_mayWord d5 (-52)) fun d6 x8 => (if x8 = 0 then fX11_takeLists_153 d6 a1 else b2 (fX11_takeNumber d6) fun d29 x31 => (if x31 = 0 then some (d29, 0) else lv (d29 1545 32) fun x33 => lv (d29 1545 33) fun x34 => b2 (fX11_takeSign d29 47) fun d35 x37 => (if x37 = 0 then some (d35, 0) else b2 (fX11_takeNumber d35) fun d39 x41 => (if x41 = 0 then some (d39, 0) else (if (fX11_in (d39 1545 32) 1 1000) = 0 then fX11_takeLists_126 d39 a1 x33 x34 else (if x33 < (d39 1545 32) then fX11_takeLists_132 d39 a1 x33 else fX11_takeLists_126 d39 a1 x33 x34)))))) else b2 (fX11_miss d) fun d53 x55 => (ck (x55 = 0 ∨ x55 = 1) <| some (d53, x55)))
noncomputable def fX11_takeLists_4f (a1 : Int) (s : Dt × Int × Int) : Option ((Dt × Int × Int) ⊕ (Dt × Int)) := match s with
  | (d, v2, v3) => (if 8 < v3 then up (fX11_takeLists_37 d a1 v2) else (if 0 ≤ v2 then up (fX11_takeLists_37 d a1 v2) else b2 (fX11_mayWord d (fX11_wayName v3)) fun d57 x59 => (if x59 = 0 then lv (w32 (v3 + 1)) fun x61 => some (Sum.inl (d57, (-1), x61)) else lv (w32 (v3 + 1)) fun x62 => some (Sum.inl (d57, v3, x62)))))
noncomputable def fX11_takeLists_4 (d : Dt) (a1 v2 v3 : Int) : Option (Dt × Int) := loop (fX11_takeLists_4f a1) (d, v2, v3)
noncomputable def fX11_takeLists (d : Dt) (a1 : Int) : Option (Dt × Int) :=
  fX11_takeLists_4 d a1 (-1) 0
noncomputable def fX11_takeContest_250 (d : Dt) (v2 v3 : Int) : Option (Dt × Int) :=
  (if v3 = 14 then b2 (fX11_takeLists d v2) fun d45 x47 => (if x47 = 0 then some (d45, 0) else some (d45, 1)) else some (d, 1))
noncomputable def fX11_takeContest_249 (d : Dt) (v2 v3 s1 s2 : Int) : Option (Dt × Int) :=
  ck (0 ≤ s1 ∧ s1 < 96) <| sd d 1577 s1 s2 fun d43 => fX11_takeContest_250 d43 v2 v3
noncomputable def fX11_takeContest_232 (d : Dt) (v2 v3 v4 : Int) : Option (Dt × Int) :=
  (if v4 = 0 then fX11_takeContest_249 d v2 v3 (w32 (v2 + 3)) 1 else fX11_takeContest_249 d v2 v3 (w32 (v2 + 3)) 0)
noncomputable def fX11_takeContest_206 (d : Dt) (v2 v3 : Int) : Option (Dt × Int) :=
  b2 (fX11_mayWord d (-112)) fun d37 x39 => (if x39 = 0 then b2 (fX11_takeWord d37 (-114)) fun d49 x51 => (if x51 = 0 then some (d49, 0) else fX11_takeContest_232 d49 v2 v3 x39) else fX11_takeContest_232 d37 v2 v3 x39)
noncomputable def fX11_takeContest_165 (d : Dt) (v2 v3 : Int) : Option (Dt × Int) :=
  (if 0 ≤ v3 then lv (w32 (v2 + 2)) fun x32 => ck (0 ≤ x32 ∧ x32 < 96) <| sd d 1577 x32 v3 fun d34 => sd d34 1576 9 (w32 ((d34 1576 9) + 1)) fun d35 => (if v3 = 12 then fX11_takeContest_206 d35 v2 v3 else (if v3 = 13 then fX11_takeContest_206 d35 v2 v3 else fX11_takeContest_250 d35 v2 v3)) else b2 (fX11_miss d) fun d54 x56 => (ck (x56 = 0 ∨ x56 = 1) <| some (d54, x56)))
noncomputable def fX11_takeContest_129f (v2 : Int) (s : Dt × Int × Int) : Option ((Dt × Int × Int) ⊕ (Dt × Int)) := match s with
  | (d, v3, v4) => (if 14 < v4 then up (fX11_takeContest_165 d v2 v3) else (if 0 ≤ v3 then up (fX11_takeContest_165 d v2 v3) else b2 (fX11_mayWord d (fX11_ruleName v4)) fun d58 x60 => (if x60 = 0 then lv (w32 (v4 + 1)) fun x62 => some (Sum.inl (d58, (-1), x62)) else lv (w32 (v4 + 1)) fun x63 => some (Sum.inl (d58, v4, x63)))))
noncomputable def fX11_takeContest_129 (d : Dt) (v2 v3 v4 : Int) : Option (Dt × Int) := loop (fX11_takeContest_129f v2) (d, v3, v4)
noncomputable def fX11_takeContest_19f (v2 : Int) (s : Dt × Int) : Option ((Dt × Int) ⊕ (Dt × Int)) := match s with
  | (d, v3) => (if 8 ≤ v3 then up (b2 (fX11_takeWord d (-28)) fun d4 x6 => (if x6 = 0 then some (d4, 0) else b2 (fX11_takeWithin d4 0 (w32 ((d4 1545 3) - 1))) fun d8 x10 => (if x10 = 0 then some (d8, 0) else lv (w32 (v2 + 0)) fun x12 => ck (0 ≤ x12 ∧ x12 < 96) <| sd d8 1577 x12 (d8 1545 32) fun d14 => b2 (fX11_takeWord d14 (-30)) fun d15 x17 => (if x17 = 0 then some (d15, 0) else b2 (fX11_takeWithin d15 1 9) fun d19 x21 => (if x21 = 0 then some (d19, 0) else lv (w32 (v2 + 1)) fun x23 => ck (0 ≤ x23 ∧ x23 < 96) <| sd d19 1577 x23 (d19 1545 32) fun d25 => b2 (fX11_takeWord d25 (-32)) fun d26 x28 => (if x28 = 0 then some (d26, 0) else fX11_takeContest_129 d26 v2 (-1) 0)))))) else lv (w32 (v2 + v3)) fun x64 => ck (0 ≤ x64 ∧ x64 < 96) <| sd d 1577 x64 0 fun d66 => lv (w32 (v3 + 1)) fun x67 => some (Sum.inl (d66, x67)))
noncomputable def fX11_takeContest_19 (d : Dt) (v2 v3 : Int) : Option (Dt × Int) := loop (fX11_takeContest_19f v2) (d, v3)
noncomputable def fX11_takeContest (d : Dt) : Option (Dt × Int) :=
  lv (fJ9_min (d 1576 9) 5) fun x1 => lv (w32 (8 * x1)) fun x2 => fX11_takeContest_19 d x2 0
noncomputable def fX11_takeClause_97 (d : Dt) (v2 : Int) : Option (Dt × Int) :=
  sd d 1545 50 (bOr (d 1545 50) (bShl 1 v2)) fun d8 => (if v2 = 0 then b2 (fX11_takeDays d8) fun d10 x12 => (ck (x12 = 0 ∨ x12 = 1) <| some (d10, x12)) else (if v2 = 1 then sd d8 1576 4 1 fun d14 => some (d14, 1) else (if v2 = 2 then b2 (fX11_takeCondition d8 0) fun d16 x18 => (ck (x18 = 0 ∨ x18 = 1) <| some (d16, x18)) else (if v2 = 3 then b2 (fX11_takeCondition d8 1) fun d20 x22 => (ck (x22 = 0 ∨ x22 = 1) <| some (d20, x22)) else (if v2 = 4 then b2 (fX11_takeSignatures d8) fun d24 x26 => (ck (x26 = 0 ∨ x26 = 1) <| some (d24, x26)) else (if v2 = 5 then b2 (fX11_takeWithin d8 0 3) fun d28 x30 => (if x30 = 0 then some (d28, 0) else sd d28 1576 7 (d28 1545 32) fun d32 => some (d32, 1)) else (if v2 = 6 then sd d8 1576 8 1 fun d34 => some (d34, 1) else b2 (fX11_takeContest d8) fun d35 x37 => (ck (x37 = 0 ∨ x37 = 1) <| some (d35, x37)))))))))
noncomputable def fX11_takeClause_92 (d : Dt) (v1 v2 : Int) : Option (Dt × Int) :=
  bd (fX11_blame d v1) fun d39 => fX11_takeClause_97 d39 v2
noncomputable def fX11_takeClause_74 (d : Dt) (v1 v2 : Int) : Option (Dt × Int) :=
  (if v2 = 7 then (if (d 1576 9) < 6 then fX11_takeClause_97 d v2 else fX11_takeClause_92 d v1 v2) else fX11_takeClause_97 d v2)
noncomputable def fX11_takeClause_47 (d : Dt) (v1 v2 : Int) : Option (Dt × Int) :=
  (if 0 ≤ v2 then (if 7 ≤ v2 then fX11_takeClause_74 d v1 v2 else (if (bAnd (bShr (d 1545 50) v2) 1) = 1 then fX11_takeClause_92 d v1 v2 else fX11_takeClause_74 d v1 v2)) else b2 (fX11_miss d) fun d42 x44 => (ck (x44 = 0 ∨ x44 = 1) <| some (d42, x44)))
noncomputable def fX11_takeClause_14f (v1 : Int) (s : Dt × Int × Int) : Option ((Dt × Int × Int) ⊕ (Dt × Int)) := match s with
  | (d, v2, v3) => (if 8 ≤ v3 then up (fX11_takeClause_47 d v1 v2) else (if 0 ≤ v2 then up (fX11_takeClause_47 d v1 v2) else b2 (fX11_mayWord d (fX11_clauseName v3)) fun d46 x48 => (if x48 = 0 then lv (w32 (v3 + 1)) fun x50 => some (Sum.inl (d46, (-1), x50)) else lv (w32 (v3 + 1)) fun x51 => some (Sum.inl (d46, v3, x51)))))
noncomputable def fX11_takeClause_14 (d : Dt) (v1 v2 v3 : Int) : Option (Dt × Int) := loop (fX11_takeClause_14f v1) (d, v2, v3)
noncomputable def fX11_takeClause (d : Dt) : Option (Dt × Int) :=
  lv (d 1545 29) fun x1 => ck (0 ≤ x1 ∧ x1 < 4002) <| lv (d 1566 x1) fun x3 => fX11_takeClause_14 d x3 (-1) 0
noncomputable def fX11_readLaw_134 (d : Dt) : Option (Dt × Int) :=
  (if (d 1545 31) = 2147483647 then some (d, (-1)) else some (d, (d 1545 31)))
noncomputable def fX11_readLaw_126 (d : Dt) : Option (Dt × Int) :=
  bd (fX11_blame d (d 1545 28)) fun d16 => fX11_readLaw_134 d16
noncomputable def fX11_readLaw_100 (d : Dt) : Option (Dt × Int) :=
  some (d, (d 1545 30))
noncomputable def fX11_readLaw_76f (s : Dt) : Option ((Dt) ⊕ (Dt × Int)) := (fun d => b1 (fX11_isSign d 0) fun x12 => (if x12 = 0 then b2 (fX11_takeClause d) fun d20 x22 => (if x22 = 0 then up (fX11_readLaw_100 d20) else b2 (fX11_takeSign d20 59) fun d24 x26 => (if x26 = 0 then up (fX11_readLaw_100 d24) else some (Sum.inl d24))) else up ((if (bAnd (d 1545 50) 1) = 0 then fX11_readLaw_126 d else (if (bAnd (bShr (d 1545 50) 7) 1) = 0 then fX11_readLaw_126 d else fX11_readLaw_134 d))))) s
noncomputable def fX11_readLaw_76 (d : Dt) : Option (Dt × Int) := loop (fX11_readLaw_76f) d
noncomputable def fX11_readLaw_2f (s : Dt × Int) : Option ((Dt × Int) ⊕ (Dt × Int)) := match s with
  | (d, v1) => (if 10 ≤ v1 then up (sd d 1576 6 1 fun d2 => sd d2 1570 0 0 fun d3 => sd d3 1570 1 0 fun d4 => sd d4 1571 0 0 fun d5 => sd d5 1545 50 0 fun d6 => sd d6 1545 49 0 fun d7 => sd d7 1545 31 2147483647 fun d8 => sd d8 1545 29 0 fun d9 => bd (fX11_cutSigns d9) fun d10 => fX11_readLaw_76 d10) else ck (0 ≤ v1 ∧ v1 < 20) <| sd d 1576 v1 0 fun d29 => lv (w32 (v1 + 1)) fun x30 => some (Sum.inl (d29, x30)))
noncomputable def fX11_readLaw_2 (d : Dt) (v1 : Int) : Option (Dt × Int) := loop (fX11_readLaw_2f) (d, v1)
noncomputable def fX11_readLaw (d : Dt) : Option (Dt × Int) :=
  fX11_readLaw_2 d 0
noncomputable def fX11_lawIs (d : Dt) (a1 : Int) : Option Int :=
  lv (w32 (10 + a1)) fun x1 => ck (0 ≤ x1 ∧ x1 < 20) <| some (d 1576 x1)
noncomputable def fX11_beginElection_60f (s : Dt × Int) : Option ((Dt × Int) ⊕ Dt) := match s with
  | (d, v1) => (if 7 ≤ v1 then up (sd d 1545 111 0 fun d9 => sd d9 1545 152 0 fun d10 => sd d10 1545 153 0 fun d11 => some d11) else ck (0 ≤ v1 ∧ v1 < 7) <| sd d 1613 v1 0 fun d13 => sd d13 1615 v1 (0 % 2) fun d14 => sd d14 1616 v1 (0 % 2) fun d15 => lv (w32 (v1 + 1)) fun x16 => some (Sum.inl (d15, x16)))
noncomputable def fX11_beginElection_60 (d : Dt) (v1 : Int) : Option Dt := loop (fX11_beginElection_60f) (d, v1)
noncomputable def fX11_beginElection_32f (s : Dt × Int) : Option ((Dt × Int) ⊕ Dt) := match s with
  | (d, v1) => (if 6 ≤ v1 then up (fX11_beginElection_60 d 0) else ck (0 ≤ v1 ∧ v1 < 6) <| sd d 1589 v1 0 fun d18 => sd d18 1594 v1 (0 % 2) fun d19 => lv (w32 (v1 + 1)) fun x20 => some (Sum.inl (d19, x20)))
noncomputable def fX11_beginElection_32 (d : Dt) (v1 : Int) : Option Dt := loop (fX11_beginElection_32f) (d, v1)
noncomputable def fX11_beginElection (d : Dt) : Option Dt :=
  sd d 1545 56 0 fun d1 => sd d1 1545 64 0 fun d2 => sd d2 1545 71 0 fun d3 => sd d3 1545 75 0 fun d4 => sd d4 1545 79 0 fun d5 => sd d5 1545 82 0 fun d6 => fX11_beginElection_32 d6 0
noncomputable def fX11_law_187 (d : Dt) (s1 : Int) : Option (Dt × Int) :=
  ck (s1 = 0 ∨ s1 = 1) <| sd d 1545 46 s1 fun d21 => b1 (fX11_lawIs d21 9) fun x22 => sd d21 1545 47 x22 fun d24 => sd d24 1545 48 (-1) fun d25 => bd (fX11_beginElection d25) fun d26 => bd (fX11_write d26 7 (d26 1545 47) 0 0 0) fun d28 => some (d28, (d28 1545 47))
noncomputable def fX11_law (d : Dt) : Option (Dt × Int) :=
  sd d 1545 28 (d 1545 1) fun d1 => sd d1 1545 1 0 fun d2 => b2 (fX11_readLaw d2) fun d3 x5 => (if x5 = (-1) then cd d3 1576 0 1576 10 10 fun d7 => cd d7 1577 0 1577 48 48 fun d8 => cd d8 1569 0 1569 8004 8004 fun d9 => sd d9 1570 2 (d9 1570 0) fun d10 => sd d10 1570 3 (d10 1570 1) fun d11 => cd d11 1572 0 1572 41 41 fun d12 => cd d12 1573 0 1573 41 41 fun d13 => cd d13 1574 0 1574 41 41 fun d14 => cd d14 1575 0 1575 41 41 fun d15 => sd d15 1545 45 1 fun d16 => b1 (fX11_lawIs d16 4) fun x17 => (if x17 = 1 then fX11_law_187 d16 1 else fX11_law_187 d16 0) else some (d3, (w32 ((-1000) - x5))))
noncomputable def fX0_days (d : Dt) (a1 : Int) : Option Int :=
  (if (d 1 9) = 0 then some (-1) else (if (fX0_within a1 0 3) = 0 then some (-2) else lv (d 1 7) fun x3 => ck (x3 ≠ 0) <| ck (0 ≤ a1 ∧ a1 < 4) <| some (d (x3 + 1) a1)))
noncomputable def fX11_days (d : Dt) (a1 : Int) : Option Int :=
  (if (d 1545 45) = 0 then some (-1) else (if (fX11_in a1 0 3) = 0 then some (-2) else b1 (fX11_lawIs d a1) fun x3 => some x3))
noncomputable def fX0_isContest (d : Dt) (a1 : Int) : Option Int :=
  (if (d 1 9) = 0 then some 0 else lv (d 1 7) fun x2 => ck (x2 ≠ 0) <| (if (fX0_within a1 0 (w32 ((d x2 14) - 1))) = 0 then some 0 else some 1))
noncomputable def fX9_struck_27 (d : Dt) (o v2 s0 s1 : Int) : Option ((Int × Int) ⊕ Int) :=
  lv (w32 (s0 + s1)) fun x4 => lv (w32 (v2 + 1)) fun x5 => some (Sum.inl (x4, x5))
noncomputable def fX9_struck_4f (d : Dt) (o : Int) (s : Int × Int) : Option ((Int × Int) ⊕ Int) := match s with
  | (v1, v2) => (if (d o 6) ≤ v2 then up (some v1) else ck (0 ≤ v2 ∧ v2 < 9) <| (if (d (o + 5) v2) = 0 then fX9_struck_27 d o v2 v1 0 else fX9_struck_27 d o v2 v1 1))
noncomputable def fX9_struck_4 (d : Dt) (o v1 v2 : Int) : Option Int := loop (fX9_struck_4f d o) (v1, v2)
noncomputable def fX9_struck (d : Dt) (o : Int) : Option Int :=
  fX9_struck_4 d o 0 0
noncomputable def fX0_contest (d : Dt) (a1 a2 : Int) : Option Int :=
  b1 (fX0_isContest d a1) fun x1 => (if x1 = 0 then some (-1) else lv (d 1 7) fun x4 => ck (x4 ≠ 0) <| ck (0 ≤ a1 ∧ a1 < 6) <| lv ((x4 + 13) + a1) fun x8 => (if a2 = 0 then some (d x8 0) else (if a2 = 1 then some (d x8 1) else (if a2 = 2 then some (d x8 2) else (if a2 = 3 then some (d x8 3) else (if a2 = 4 then some (d (629 + 8 * a1) 6) else (if a2 = 5 then b1 (fX9_struck d (629 + 8 * a1)) fun x15 => some x15 else some (-2))))))))
def fX11_isContest (d : Dt) (a1 : Int) : Int :=
  (if (d 1545 45) = 0 then 0 else (if (fX11_in a1 0 (w32 ((d 1545 47) - 1))) = 0 then 0 else 1))
noncomputable def fX11_contestIs (d : Dt) (a1 a2 : Int) : Option Int :=
  lv (w32 ((w32 (8 * (w32 (6 + a1)))) + a2)) fun x1 => ck (0 ≤ x1 ∧ x1 < 96) <| some (d 1577 x1)
noncomputable def fX11_struckOf_37 (d : Dt) (a1 v3 s0 s1 : Int) : Option ((Int × Int) ⊕ Int) :=
  lv (w32 (s0 + s1)) fun x6 => lv (w32 (v3 + 1)) fun x7 => some (Sum.inl (x6, x7))
noncomputable def fX11_struckOf_7f (d : Dt) (a1 : Int) (s : Int × Int) : Option ((Int × Int) ⊕ Int) := match s with
  | (v2, v3) => ck (0 ≤ a1 ∧ a1 < 6) <| (if (w32 ((w32 (9 * a1)) + (d 1589 a1))) ≤ v3 then up (some v2) else ck (0 ≤ v3 ∧ v3 < 54) <| (if (d 1591 v3) = 0 then fX11_struckOf_37 d a1 v3 v2 0 else fX11_struckOf_37 d a1 v3 v2 1))
noncomputable def fX11_struckOf_7 (d : Dt) (a1 v2 v3 : Int) : Option Int := loop (fX11_struckOf_7f d a1) (v2, v3)
noncomputable def fX11_struckOf (d : Dt) (a1 : Int) : Option Int :=
  lv (w32 (9 * a1)) fun x1 => fX11_struckOf_7 d a1 0 x1
noncomputable def fX11_contest (d : Dt) (a1 a2 : Int) : Option Int :=
  (if (fX11_isContest d a1) = 0 then some (-1) else (if (fX11_in a2 0 5) = 0 then some (-2) else (if 4 ≤ a2 then (if a2 = 4 then ck (0 ≤ a1 ∧ a1 < 6) <| some (d 1589 a1) else b1 (fX11_struckOf d a1) fun x5 => some x5) else b1 (fX11_contestIs d a1 a2) fun x8 => some x8)))
noncomputable def fX13_lived_22f (d : Dt) (o a1 a2 : Int) (s : Int × Int) : Option ((Int × Int) ⊕ Int) := match s with
  | (v3, v4) => (if (d o 8) ≤ v4 then up ((ck (v3 = 0 ∨ v3 = 1) <| some v3)) else (if v3 = 0 then up ((ck (v3 = 0 ∨ v3 = 1) <| some v3)) else ck (0 ≤ v4 ∧ v4 < 10) <| (if (fX0_within (d (o + 1) v4) (w32 ((w32 (a2 - a1)) + 2)) a2) = 0 then lv (w32 (v4 + 1)) fun x8 => some (Sum.inl (1, x8)) else b1 (fX13_address d o (d (o + 1) v4)) fun x9 => (if x9 = (-1) then lv (w32 (v4 + 1)) fun x12 => some (Sum.inl (0, x12)) else lv (w32 (v4 + 1)) fun x13 => some (Sum.inl (1, x13))))))
noncomputable def fX13_lived_22 (d : Dt) (o a1 a2 v3 v4 : Int) : Option Int := loop (fX13_lived_22f d o a1 a2) (v3, v4)
noncomputable def fX13_lived (d : Dt) (o a1 a2 : Int) : Option Int :=
  b1 (fX13_address d o (w32 ((w32 (a2 - a1)) + 1))) fun x1 => (if x1 = (-1) then fX13_lived_22 d o a1 a2 0 0 else fX13_lived_22 d o a1 a2 1 0)
noncomputable def fX1_isIn (d : Dt) (a1 a2 a3 : Int) : Option Int :=
  (if a2 = (-1) then some 0 else ck (0 ≤ a1 ∧ a1 < 24) <| b1 (fX1_areaOf d (d 4 a1) a2 a3) fun x3 => (if x3 = a1 then some 1 else some 0))
noncomputable def fX4_test_21 (d : Dt) (o a1 a2 a4 s0 : Int) : Option Int :=
  ck (0 ≤ a1 ∧ a1 < 40) <| lv (d (o + 6) a1) fun x4 => (if x4 = 9 then b1 (fX13_address d a2 s0) fun x6 => b1 (fX1_isIn d (d (o + 7) a1) x6 s0) fun x8 => (ck (x8 = 0 ∨ x8 = 1) <| some x8) else (if x4 = 17 then b1 (fX13_age d a2 s0 (d o 1)) fun x11 => (if x11 < (d (o + 7) a1) then some 0 else some 1) else (if x4 = 18 then b1 (fX13_lived d a2 (d (o + 7) a1) s0) fun x15 => (ck (x15 = 0 ∨ x15 = 1) <| some x15) else b1 (fX13_is d a2 (d (o + 7) a1) s0) fun x17 => (if x17 = 1 then some 1 else some 0))))
noncomputable def fX4_test (d : Dt) (o a1 a2 a4 : Int) : Option Int :=
  ck (0 ≤ a1 ∧ a1 < 40) <| (if (d (o + 8) a1) = (-1) then fX4_test_21 d o a1 a2 a4 a4 else fX4_test_21 d o a1 a2 a4 (d (o + 8) a1))
noncomputable def fX4_may_82 (d : Dt) (o a1 a2 v4 v5 v6 s1 s2 : Int) : Option ((Dt × Int × Int) ⊕ (Dt × Int)) :=
  ck (0 ≤ s1 ∧ s1 < 41) <| sd d (o + 12) s1 (s2 % 2) fun d32 => lv (w32 (v6 + 1)) fun x33 => some (Sum.inl (d32, v5, x33))
noncomputable def fX4_may_31f (o a1 a2 v4 : Int) (s : Dt × Int × Int) : Option ((Dt × Int × Int) ⊕ (Dt × Int)) := match s with
  | (d, v5, v6) => (if (d a1 1) ≤ v6 then up ((if v5 = 0 then some (d, 1) else (if (d (o + 12) 0) = 0 then some (d, 0) else some (d, 1)))) else ck (0 ≤ v6 ∧ v6 < 4000) <| lv (d (a1 + 1) v6) fun x6 => (if x6 = 4002 then lv (w32 (v5 - 1)) fun x28 => ck (0 ≤ x28 ∧ x28 < 41) <| (if (d (o + 12) x28) = 0 then fX4_may_82 d o a1 a2 v4 v5 v6 (w32 (v5 - 1)) 1 else fX4_may_82 d o a1 a2 v4 v5 v6 (w32 (v5 - 1)) 0) else (if x6 = 4000 then lv (w32 (v5 + (-1))) fun x22 => lv (w32 (x22 - 1)) fun x23 => ck (0 ≤ x23 ∧ x23 < 41) <| ck (0 ≤ x22 ∧ x22 < 41) <| sd d (o + 12) x23 ((bAnd (d (o + 12) x23) (d (o + 12) x22)) % 2) fun d26 => lv (w32 (v6 + 1)) fun x27 => some (Sum.inl (d26, x22, x27)) else (if x6 = 4001 then lv (w32 (v5 + (-1))) fun x16 => lv (w32 (x16 - 1)) fun x17 => ck (0 ≤ x17 ∧ x17 < 41) <| ck (0 ≤ x16 ∧ x16 < 41) <| sd d (o + 12) x17 ((bOr (d (o + 12) x17) (d (o + 12) x16)) % 2) fun d20 => lv (w32 (v6 + 1)) fun x21 => some (Sum.inl (d20, x16, x21)) else b1 (fX4_test d o x6 a2 v4) fun x10 => ck (0 ≤ v5 ∧ v5 < 41) <| sd d (o + 12) v5 (x10 % 2) fun d13 => lv (w32 (v5 + 1)) fun x14 => lv (w32 (v6 + 1)) fun x15 => some (Sum.inl (d13, x14, x15))))))
noncomputable def fX4_may_31 (d : Dt) (o a1 a2 v4 v5 v6 : Int) : Option (Dt × Int) := loop (fX4_may_31f o a1 a2 v4) (d, v5, v6)
noncomputable def fX4_may_23 (d : Dt) (o a1 a2 s0 : Int) : Option (Dt × Int) :=
  fX4_may_31 d o a1 a2 s0 0 0
noncomputable def fX4_may (d : Dt) (o a1 a2 : Int) : Option (Dt × Int) :=
  (if a1 = (o + 2) then fX4_may_23 d o a1 a2 (d (o + 1) 1) else fX4_may_23 d o a1 a2 (d (o + 1) 0))
noncomputable def fX4_fails_31f (d : Dt) (o a1 a2 v4 : Int) (s : Int) : Option ((Int) ⊕ Int) := (fun v5 => (if (d a1 3) ≤ v5 then up (some (-1)) else b1 (fX4_test d o v5 a2 v4) fun x4 => ck (0 ≤ v5 ∧ v5 < 40) <| (if x4 = (d (o + 10) v5) then up (some (d (o + 9) v5)) else lv (w32 (v5 + 1)) fun x8 => some (Sum.inl x8)))) s
noncomputable def fX4_fails_31 (d : Dt) (o a1 a2 v4 v5 : Int) : Option Int := loop (fX4_fails_31f d o a1 a2 v4) v5
noncomputable def fX4_fails_23 (d : Dt) (o a1 a2 s0 : Int) : Option Int :=
  lv (d a1 2) fun x2 => fX4_fails_31 d o a1 a2 s0 x2
noncomputable def fX4_fails (d : Dt) (o a1 a2 : Int) : Option Int :=
  (if a1 = (o + 2) then fX4_fails_23 d o a1 a2 (d (o + 1) 1) else fX4_fails_23 d o a1 a2 (d (o + 1) 0))
noncomputable def fX0_may_50 (d : Dt) (a1 a2 s0 : Int) : Option (Dt × Int) :=
  lv (d 1 7) fun x8 => ck (x8 ≠ 0) <| ck (0 ≤ a1 ∧ a1 < 60) <| lv (d 9 a1) fun x12 => ck (x12 ≠ 0) <| b2 (fX4_may d x8 s0 x12) fun d15 x17 => (if x17 = 0 then lv (d15 1 7) fun x19 => ck (x19 ≠ 0) <| lv (d15 9 a1) fun x22 => ck (x22 ≠ 0) <| b1 (fX4_fails d15 x19 s0 x22) fun x25 => sd d15 1 10 x25 fun d27 => some (d27, 0) else some (d15, 1))
noncomputable def fX0_may (d : Dt) (a1 a2 : Int) : Option (Dt × Int) :=
  (if (d 1 9) = 0 then some (d, (-1)) else (if (fX0_isPerson d a1) = 0 then some (d, (-1)) else (if (fX0_within a2 0 1) = 0 then some (d, (-2)) else (if a2 = 0 then lv (d 1 7) fun x28 => ck (x28 ≠ 0) <| fX0_may_50 d a1 a2 (x28 + 2) else lv (d 1 7) fun x5 => ck (x5 ≠ 0) <| fX0_may_50 d a1 a2 (x5 + 4)))))
noncomputable def fX11_openLevel (d : Dt) (a1 a2 : Int) : Option Dt :=
  ck (0 ≤ a1 ∧ a1 < 32) <| sd d 1578 a1 (0 % 2) fun d2 => sd d2 1579 a1 (1 % 2) fun d3 => sd d3 1580 a1 (0 % 2) fun d4 => sd d4 1581 a1 (a2 % 2) fun d5 => some d5
noncomputable def fX11_isIn (d : Dt) (a1 a2 a3 : Int) : Option Int :=
  (if a2 < 0 then some 0 else ck (0 ≤ a1 ∧ a1 < 24) <| b1 (fX11_lies d (d 1547 a1) a2 a3) fun x3 => (if x3 = a1 then some 1 else some 0))
noncomputable def fX11_holds_139f (d : Dt) (a1 a2 a3 v4 v5 : Int) (s : Int) : Option ((Int) ⊕ Int) := (fun v6 => (if v5 ≤ v6 then up (some 1) else b1 (fX11_addressOn d a2 (w32 (v4 - v6))) fun x19 => (if 0 ≤ x19 then lv (w32 (v6 + 1)) fun x22 => some (Sum.inl x22) else up (some 0)))) s
noncomputable def fX11_holds_139 (d : Dt) (a1 a2 a3 v4 v5 v6 : Int) : Option Int := loop (fX11_holds_139f d a1 a2 a3 v4 v5) v6
noncomputable def fX11_holds_39 (d : Dt) (a1 a2 a3 s0 : Int) : Option Int :=
  lv (w32 (41 + a1)) fun x7 => ck (0 ≤ x7 ∧ x7 < 82) <| lv (d 1573 x7) fun x9 => lv (w32 (41 + a1)) fun x10 => ck (0 ≤ x10 ∧ x10 < 82) <| lv (d 1572 x10) fun x12 => (if x12 = 0 then b1 (fX11_ageOn d a2 s0) fun x14 => (if x14 < x9 then some 0 else some 1) else (if x12 = 1 then fX11_holds_139 d a1 a2 a3 s0 x9 0 else (if x12 = 2 then b1 (fX11_addressOn d a2 s0) fun x24 => b1 (fX11_isIn d x9 x24 s0) fun x26 => (ck (x26 = 0 ∨ x26 = 1) <| some x26) else (if x12 = 3 then b1 (fX11_isSo d a2 x9 s0) fun x29 => (ck (x29 = 0 ∨ x29 = 1) <| some x29) else fX11_holds_139 d a1 a2 a3 s0 x9 0))))
noncomputable def fX11_holds_36 (d : Dt) (a1 a2 a3 s1 : Int) : Option Int :=
  b1 (fX11_lawIs d s1) fun x5 => fX11_holds_39 d a1 a2 a3 x5
noncomputable def fX11_holds (d : Dt) (a1 a2 a3 : Int) : Option Int :=
  lv (w32 (41 + a1)) fun x1 => ck (0 ≤ x1 ∧ x1 < 82) <| (if (d 1574 x1) = (-2147483648) then (if a3 = 0 then fX11_holds_36 d a1 a2 a3 0 else fX11_holds_36 d a1 a2 a3 1) else lv (w32 (41 + a1)) fun x31 => ck (0 ≤ x31 ∧ x31 < 82) <| fX11_holds_39 d a1 a2 a3 (d 1574 x31))
noncomputable def fX11_takesIn_22 (d : Dt) (a1 a2 s1 s2 s3 : Int) : Option Dt :=
  ck (0 ≤ s1 ∧ s1 < 32) <| sd d 1579 s1 ((bAnd s2 s3) % 2) fun d4 => ck (0 ≤ a1 ∧ a1 < 32) <| sd d4 1580 a1 (0 % 2) fun d6 => some d6
noncomputable def fX11_takesIn (d : Dt) (a1 a2 : Int) : Option Dt :=
  ck (0 ≤ a1 ∧ a1 < 32) <| (if a2 = (d 1580 a1) then fX11_takesIn_22 d a1 a2 a1 (d 1579 a1) 0 else fX11_takesIn_22 d a1 a2 a1 (d 1579 a1) 1)
noncomputable def fX11_lets_254 (d : Dt) (a1 a2 v3 v4 v5 s1 s2 : Int) : Option ((Dt × Int × Int) ⊕ (Dt × Int)) :=
  bd (fX11_takesIn d s1 s2) fun d28 => lv (w32 (v5 + 1)) fun x30 => some (Sum.inl (d28, v4, x30))
noncomputable def fX11_lets_203 (d : Dt) (a1 a2 v3 v4 v5 s1 s2 : Int) : Option ((Dt × Int × Int) ⊕ (Dt × Int)) :=
  bd (fX11_openLevel d s1 s2) fun d36 => lv (w32 (v4 + 1)) fun x38 => lv (w32 (v5 + 1)) fun x39 => some (Sum.inl (d36, x38, x39))
noncomputable def fX11_lets_165 (d : Dt) (a1 a2 v3 v4 v5 s1 s2 : Int) : Option ((Dt × Int × Int) ⊕ (Dt × Int)) :=
  ck (0 ≤ s1 ∧ s1 < 32) <| sd d 1580 s1 (s2 % 2) fun d43 => lv (w32 (v5 + 1)) fun x44 => some (Sum.inl (d43, v4, x44))
noncomputable def fX11_lets_127 (d : Dt) (a1 a2 v3 v4 v5 v7 : Int) : Option ((Dt × Int × Int) ⊕ (Dt × Int)) :=
  bd (fX11_takesIn d v4 v7) fun d48 => lv (w32 (v5 + 1)) fun x50 => some (Sum.inl (d48, v4, x50))
noncomputable def fX11_lets_110 (d : Dt) (a1 a2 v3 v4 v5 v6 v7 s0 s1 : Int) : Option ((Dt × Int × Int) ⊕ (Dt × Int)) :=
  (if s0 = s1 then lv (w32 (41 + v6)) fun x54 => ck (0 ≤ x54 ∧ x54 < 82) <| sd d 1545 55 (d 1575 x54) fun d56 => fX11_lets_127 d56 a1 a2 v3 v4 v5 v7 else fX11_lets_127 d a1 a2 v3 v4 v5 v7)
noncomputable def fX11_lets_38f (a1 a2 v3 : Int) (s : Dt × Int × Int) : Option ((Dt × Int × Int) ⊕ (Dt × Int)) := match s with
  | (d, v4, v5) => ck (0 ≤ v3 ∧ v3 < 4) <| (if (d 1570 v3) ≤ v5 then up ((if (d 1578 0) = 0 then (if (d 1579 0) = 0 then some (d, 0) else some (d, 1)) else some (d, 1))) else lv (w32 ((w32 (4002 * v3)) + v5)) fun x11 => ck (0 ≤ x11 ∧ x11 < 16008) <| lv (d 1569 x11) fun x13 => (if x13 < 0 then (if x13 = (-1) then ck (0 ≤ v4 ∧ v4 < 32) <| (if (d 1580 v4) = 0 then fX11_lets_165 d a1 a2 v3 v4 v5 v4 1 else fX11_lets_165 d a1 a2 v3 v4 v5 v4 0) else (if x13 = (-2) then ck (0 ≤ v4 ∧ v4 < 32) <| (if (d 1581 v4) = (d 1580 v4) then fX11_lets_203 d a1 a2 v3 v4 v5 (w32 (v4 + 1)) 0 else fX11_lets_203 d a1 a2 v3 v4 v5 (w32 (v4 + 1)) 1) else (if x13 = (-3) then lv (w32 (v4 + (-1))) fun x24 => lv (w32 (x24 + 1)) fun x25 => ck (0 ≤ x25 ∧ x25 < 32) <| (if (d 1578 x25) = 0 then lv (w32 (x24 + 1)) fun x31 => ck (0 ≤ x31 ∧ x31 < 32) <| (if (d 1579 x31) = 0 then fX11_lets_254 d a1 a2 v3 x24 v5 x24 0 else fX11_lets_254 d a1 a2 v3 x24 v5 x24 1) else fX11_lets_254 d a1 a2 v3 x24 v5 x24 1) else (if x13 = (-5) then ck (0 ≤ v4 ∧ v4 < 32) <| sd d 1578 v4 ((bOr (d 1578 v4) (d 1579 v4)) % 2) fun d21 => sd d21 1579 v4 (1 % 2) fun d22 => lv (w32 (v5 + 1)) fun x23 => some (Sum.inl (d22, v4, x23)) else lv (w32 (v5 + 1)) fun x19 => some (Sum.inl (d, v4, x19)))))) else b1 (fX11_holds d x13 a1 a2) fun x45 => (if 0 ≤ (d 1545 55) then fX11_lets_127 d a1 a2 v3 v4 v5 x45 else ck (0 ≤ v4 ∧ v4 < 32) <| (if (d 1581 v4) = (d 1580 v4) then fX11_lets_110 d a1 a2 v3 v4 v5 x13 x45 x45 0 else fX11_lets_110 d a1 a2 v3 v4 v5 x13 x45 x45 1))))
noncomputable def fX11_lets_38 (d : Dt) (a1 a2 v3 v4 v5 : Int) : Option (Dt × Int) := loop (fX11_lets_38f a1 a2 v3) (d, v4, v5)
noncomputable def fX11_lets_9 (d : Dt) (a1 a2 s0 : Int) : Option (Dt × Int) :=
  sd d 1545 55 (-1) fun d2 => ck (0 ≤ s0 ∧ s0 < 4) <| (if (d2 1570 s0) = 0 then some (d2, 1) else bd (fX11_openLevel d2 0 0) fun d5 => fX11_lets_38 d5 a1 a2 s0 0 0)
noncomputable def fX11_lets (d : Dt) (a1 a2 : Int) : Option (Dt × Int) :=
  (if a2 = 0 then fX11_lets_9 d a1 a2 3 else fX11_lets_9 d a1 a2 2)
noncomputable def fX11_may_61 (d : Dt) (a1 a2 v3 s1 : Int) : Option (Dt × Int) :=
  sd d 1545 48 s1 fun d9 => (if v3 = 0 then some (d9, 0) else some (d9, 1))
noncomputable def fX11_may_41 (d : Dt) (a1 a2 s1 s2 : Int) : Option (Dt × Int) :=
  b2 (fX11_lets d s1 s2) fun d5 x7 => (if x7 = 0 then fX11_may_61 d5 a1 a2 x7 (d5 1545 55) else fX11_may_61 d5 a1 a2 x7 (d5 1545 48))
noncomputable def fX11_may (d : Dt) (a1 a2 : Int) : Option (Dt × Int) :=
  (if (d 1545 45) = 0 then some (d, (-1)) else (if (fX11_isPerson d a1) = 0 then some (d, (-1)) else (if (fX11_in a2 0 1) = 0 then some (d, (-2)) else (if a2 = 0 then fX11_may_41 d a1 a2 a1 1 else fX11_may_41 d a1 a2 a1 0))))
def fX0_place (d : Dt) : Int :=
  (d 1 10)
def fX11_place (d : Dt) : Int :=
  (d 1545 48)
def fX13_isAlive (d : Dt) (o a1 : Int) : Int :=
  (if a1 < (d o 3) then 0 else (if (d o 4) ≤ a1 then 0 else 1))
noncomputable def fX9_hasPerson_2f (d : Dt) (o a1 : Int) (s : Int) : Option ((Int) ⊕ Int) := (fun v2 => (if (d o 0) ≤ v2 then up (some 0) else ck (0 ≤ v2 ∧ v2 < 9) <| (if (d (o + 1) v2) = a1 then up (some 1) else lv (w32 (v2 + 1)) fun x4 => some (Sum.inl x4)))) s
noncomputable def fX9_hasPerson_2 (d : Dt) (o a1 v2 : Int) : Option Int := loop (fX9_hasPerson_2f d o a1) v2
noncomputable def fX9_hasPerson (d : Dt) (o a1 : Int) : Option Int :=
  fX9_hasPerson_2 d o a1 0
noncomputable def fX0_stand (d m : Dt) (a1 a2 a3 : Int) : Option (Dt × Dt × Int) :=
  b1 (fX0_isContest d a1) fun x1 => (if x1 = 0 then some (d, m, (-1)) else (if (fX0_isPerson d a2) = 0 then some (d, m, (-1)) else (if (fX0_within a3 (-1) 7) = 0 then some (d, m, (-2)) else lv (d 1 7) fun x6 => ck (x6 ≠ 0) <| (if (d (x6 + 1) 0) < (d 1 2) then some (d, m, (-3)) else (if (d 1 17) = 0 then ck (0 ≤ a1 ∧ a1 < 6) <| lv (629 + 8 * a1) fun x12 => lv (d 1 7) fun x13 => ck (x13 ≠ 0) <| lv (d 1 7) fun x16 => ck (x16 ≠ 0) <| ck (0 ≤ a2 ∧ a2 < 60) <| lv (d 9 a2) fun x20 => ck (x20 ≠ 0) <| b2 (fX4_may d x13 (x16 + 4) x20) fun d23 x25 => (if x25 = 0 then some (d23, m, (-4)) else lv (d23 9 a2) fun x27 => ck (x27 ≠ 0) <| (if (fX13_isAlive d23 x27 (d23 1 2)) = 0 then some (d23, m, (-4)) else b1 (fX9_hasPerson d23 x12 a2) fun x31 => (if x31 = 0 then (if (d23 x12 0) = 9 then some (d23, m, (-5)) else lv (d23 x12 0) fun x35 => ck (0 ≤ x35 ∧ x35 < 9) <| sd d23 (x12 + 1) x35 a2 fun d37 => sd d37 x12 0 (w32 ((d37 x12 0) + 1)) fun d38 => lv (m 0 0) fun o39 => lm (nwX14 o39 a1 a2 a3 d38) fun d40 => lm (nt_X14 m) fun m41 => lv (d38 1 15) fun x42 => ck (0 ≤ x42 ∧ x42 < 54) <| sd d40 58 x42 o39 fun d44 => sd d44 1 15 (w32 ((d44 1 15) + 1)) fun d45 => bd (fX0_write d45 8 a1 a2 a3 0) fun d46 => some (d46, m41, (w32 ((d46 1 15) - 1)))) else some (d23, m, (-4))))) else some (d, m, (-3)))))))
noncomputable def fX11_isBehindStanding (d : Dt) : Option Int :=
  b1 (fX11_lawIs d 0) fun x1 => (if x1 < (d 1545 2) then some 1 else (if (d 1545 64) = 0 then some 0 else some 1))
noncomputable def fX11_isAlive (d : Dt) (a1 a2 : Int) : Option Int :=
  ck (0 ≤ a1 ∧ a1 < 60) <| (if a2 < (d 1552 a1) then some 0 else (if (d 1556 a1) = (-2147483648) then some 1 else (if (d 1556 a1) ≤ a2 then some 0 else some 1)))
noncomputable def fX11_stand_228f (a1 a2 a3 v6 : Int) (s : Dt × Int) : Option ((Dt × Int) ⊕ (Dt × Int)) := match s with
  | (d, v7) => (if 60 ≤ v7 then up (bd (fX11_write d 8 a1 a2 a3 0) fun d27 => some (d27, v6)) else lv (w32 ((w32 (60 * v6)) + v7)) fun x29 => ck (0 ≤ x29 ∧ x29 < 3240) <| sd d 1588 x29 (0 % 2) fun d31 => lv (w32 (v7 + 1)) fun x32 => some (Sum.inl (d31, x32)))
noncomputable def fX11_stand_228 (d : Dt) (a1 a2 a3 v6 v7 : Int) : Option (Dt × Int) := loop (fX11_stand_228f a1 a2 a3 v6) (d, v7)
noncomputable def fX11_stand_113 (d : Dt) (a1 a2 a3 v4 v6 s0 s1 : Int) : Option ((Int × Int × Int) ⊕ (Dt × Int)) :=
  lv (bOr s0 s1) fun x38 => lv (w32 (v6 + 1)) fun x39 => some (Sum.inl (v4, x38, x39))
noncomputable def fX11_stand_81 (d : Dt) (a1 a2 a3 v5 v6 s0 s1 : Int) : Option ((Int × Int × Int) ⊕ (Dt × Int)) :=
  lv (w32 (s0 + s1)) fun x35 => ck (0 ≤ v6 ∧ v6 < 54) <| (if (d 1582 v6) = a1 then (if (d 1583 v6) = a2 then fX11_stand_113 d a1 a2 a3 x35 v6 v5 1 else fX11_stand_113 d a1 a2 a3 x35 v6 v5 0) else fX11_stand_113 d a1 a2 a3 x35 v6 v5 0)
noncomputable def fX11_stand_54f (d : Dt) (a1 a2 a3 : Int) (s : Int × Int × Int) : Option ((Int × Int × Int) ⊕ (Dt × Int)) := match s with
  | (v4, v5, v6) => (if (d 1545 56) ≤ v6 then up (b2 (fX11_lets d a2 0) fun d8 x10 => (if x10 = 0 then some (d8, (-4)) else b1 (fX11_isAlive d8 a2 (d8 1545 2)) fun x12 => (if x12 = 0 then some (d8, (-4)) else (if v5 = 0 then (if v4 = 9 then some (d8, (-5)) else lv (d8 1545 56) fun x17 => sd d8 1545 56 (w32 ((d8 1545 56) + 1)) fun d18 => ck (0 ≤ x17 ∧ x17 < 54) <| sd d18 1582 x17 a1 fun d20 => sd d20 1583 x17 a2 fun d21 => sd d21 1584 x17 a3 fun d22 => sd d22 1585 x17 0 fun d23 => sd d23 1586 x17 0 fun d24 => sd d24 1587 x17 (-1) fun d25 => fX11_stand_228 d25 a1 a2 a3 x17 0) else some (d8, (-4)))))) else ck (0 ≤ v6 ∧ v6 < 54) <| (if (d 1582 v6) = a1 then fX11_stand_81 d a1 a2 a3 v5 v6 v4 1 else fX11_stand_81 d a1 a2 a3 v5 v6 v4 0))
noncomputable def fX11_stand_54 (d : Dt) (a1 a2 a3 v4 v5 v6 : Int) : Option (Dt × Int) := loop (fX11_stand_54f d a1 a2 a3) (v4, v5, v6)
noncomputable def fX11_stand (d : Dt) (a1 a2 a3 : Int) : Option (Dt × Int) :=
  (if (fX11_isContest d a1) = 0 then some (d, (-1)) else (if (fX11_isPerson d a2) = 0 then some (d, (-1)) else (if (fX11_in a3 (-1) 7) = 0 then some (d, (-2)) else b1 (fX11_isBehindStanding d) fun x4 => (if x4 = 0 then fX11_stand_54 d a1 a2 a3 0 0 0 else some (d, (-3))))))
def fX0_isNomination (d : Dt) (a1 : Int) : Int :=
  (fX0_within a1 0 (w32 ((d 1 15) - 1)))
noncomputable def fX0_mayVote (d : Dt) (a1 : Int) : Option (Dt × Int) :=
  lv (d 1 7) fun x1 => ck (x1 ≠ 0) <| lv (d 1 7) fun x4 => ck (x4 ≠ 0) <| ck (0 ≤ a1 ∧ a1 < 60) <| lv (d 9 a1) fun x8 => ck (x8 ≠ 0) <| b2 (fX4_may d x1 (x4 + 2) x8) fun d11 x13 => (ck (x13 = 0 ∨ x13 = 1) <| some (d11, x13))
noncomputable def fX0_sign_129 (d : Dt) (a1 a2 v3 s0 : Int) : Option (Dt × Int) :=
  (if s0 = 0 then some (d, (-4)) else (if (jCmp (jAnd (jShr (d v3 3) a2) 1) 1) = 0 then some (d, (-4)) else ck (0 ≤ a2 ∧ a2 < 60) <| lv (d 1 7) fun x20 => ck (x20 ≠ 0) <| (if (d 59 a2) = (d x20 4) then some (d, (-4)) else sd d v3 3 (jOr (d v3 3) (jShl 1 a2)) fun d24 => sd d24 v3 4 (w32 ((d24 v3 4) + 1)) fun d25 => sd d25 59 a2 (w32 ((d25 59 a2) + 1)) fun d26 => bd (fX0_write d26 9 a1 a2 0 0) fun d27 => some (d27, (d27 v3 4)))))
noncomputable def fX0_sign (d : Dt) (a1 a2 : Int) : Option (Dt × Int) :=
  (if (fX0_isNomination d a1) = 0 then some (d, (-1)) else (if (fX0_isPerson d a2) = 0 then some (d, (-1)) else lv (d 1 7) fun x3 => ck (x3 ≠ 0) <| (if (d (x3 + 1) 0) < (d 1 2) then some (d, (-3)) else (if (d 1 17) = 0 then ck (0 ≤ a1 ∧ a1 < 54) <| lv (d 58 a1) fun x9 => ck (x9 ≠ 0) <| ck (0 ≤ a2 ∧ a2 < 60) <| lv (d 9 a2) fun x13 => ck (x13 ≠ 0) <| (if (d x9 5) = 0 then (if (fX13_isAlive d x13 (d 1 2)) = 0 then fX0_sign_129 d a1 a2 x9 0 else b2 (fX0_mayVote d a2) fun d30 x32 => (if x32 = 0 then fX0_sign_129 d30 a1 a2 x9 0 else lv (d30 1 7) fun x34 => ck (x34 ≠ 0) <| lv (d30 x9 0) fun x37 => ck (0 ≤ x37 ∧ x37 < 6) <| b1 (fX13_address d30 x13 (d30 1 2)) fun x39 => b1 (fX1_isIn d30 (d30 ((x34 + 13) + x37) 0) x39 (d30 1 2)) fun x41 => (if x41 = 0 then fX0_sign_129 d30 a1 a2 x9 0 else fX0_sign_129 d30 a1 a2 x9 1))) else fX0_sign_129 d a1 a2 x9 0) else some (d, (-3))))))
noncomputable def fX11_sign_158 (d : Dt) (a1 a2 v3 s0 : Int) : Option (Dt × Int) :=
  (if s0 = 0 then some (d, (-4)) else lv (w32 ((w32 (60 * a1)) + a2)) fun x11 => ck (0 ≤ x11 ∧ x11 < 3240) <| (if (d 1588 x11) = 0 then b1 (fX11_lawIs d 6) fun x14 => (if v3 < x14 then lv (w32 ((w32 (60 * a1)) + a2)) fun x17 => ck (0 ≤ x17 ∧ x17 < 3240) <| sd d 1588 x17 (1 % 2) fun d19 => ck (0 ≤ a1 ∧ a1 < 54) <| sd d19 1585 a1 (w32 ((d19 1585 a1) + 1)) fun d21 => bd (fX11_write d21 9 a1 a2 0 0) fun d22 => some (d22, (d22 1585 a1)) else some (d, (-4))) else some (d, (-4))))
noncomputable def fX11_sign_115 (d : Dt) (a1 a2 v3 s0 : Int) : Option (Dt × Int) :=
  (if s0 = 0 then fX11_sign_158 d a1 a2 v3 0 else ck (0 ≤ a1 ∧ a1 < 54) <| b1 (fX11_contestIs d (d 1582 a1) 0) fun x25 => b1 (fX11_addressOn d a2 (d 1545 2)) fun x27 => b1 (fX11_isIn d x25 x27 (d 1545 2)) fun x29 => (if x29 = 0 then fX11_sign_158 d a1 a2 v3 0 else fX11_sign_158 d a1 a2 v3 1))
noncomputable def fX11_sign_71 (d : Dt) (a1 a2 v4 s0 s1 : Int) : Option ((Int × Int) ⊕ (Dt × Int)) :=
  lv (w32 (s0 + s1)) fun x42 => lv (w32 (v4 + 1)) fun x43 => some (Sum.inl (x42, x43))
noncomputable def fX11_sign_41f (d : Dt) (a1 a2 : Int) (s : Int × Int) : Option ((Int × Int) ⊕ (Dt × Int)) := match s with
  | (v3, v4) => (if (d 1545 56) ≤ v4 then up (ck (0 ≤ a1 ∧ a1 < 54) <| (if (d 1586 a1) = 3 then fX11_sign_115 d a1 a2 v3 0 else b2 (fX11_lets d a2 1) fun d32 x34 => (if x34 = 0 then fX11_sign_115 d32 a1 a2 v3 0 else b1 (fX11_isAlive d32 a2 (d32 1545 2)) fun x36 => (if x36 = 0 then fX11_sign_115 d32 a1 a2 v3 0 else fX11_sign_115 d32 a1 a2 v3 1)))) else lv (w32 ((w32 (60 * v4)) + a2)) fun x39 => ck (0 ≤ x39 ∧ x39 < 3240) <| (if (d 1588 x39) = 0 then fX11_sign_71 d a1 a2 v4 v3 0 else fX11_sign_71 d a1 a2 v4 v3 1))
noncomputable def fX11_sign_41 (d : Dt) (a1 a2 v3 v4 : Int) : Option (Dt × Int) := loop (fX11_sign_41f d a1 a2) (v3, v4)
noncomputable def fX11_sign (d : Dt) (a1 a2 : Int) : Option (Dt × Int) :=
  (if (fX11_in a1 0 (w32 ((d 1545 56) - 1))) = 0 then some (d, (-1)) else (if (fX11_isPerson d a2) = 0 then some (d, (-1)) else b1 (fX11_isBehindStanding d) fun x3 => (if x3 = 0 then fX11_sign_41 d a1 a2 0 0 else some (d, (-3)))))
noncomputable def fX0_withdraw (d : Dt) (a1 : Int) : Option (Dt × Int) :=
  (if (fX0_isNomination d a1) = 0 then some (d, (-1)) else (if (d 1 17) = 0 then ck (0 ≤ a1 ∧ a1 < 54) <| lv (d 58 a1) fun x4 => ck (x4 ≠ 0) <| (if (d x4 5) = 0 then lv (d 58 a1) fun x8 => ck (x8 ≠ 0) <| sd d x8 5 1 fun d11 => lv (d11 58 a1) fun x12 => ck (x12 ≠ 0) <| sd d11 x12 6 3 fun d15 => bd (fX0_write d15 10 a1 0 0 0) fun d16 => some (d16, 1) else some (d, (-4))) else some (d, (-3))))
noncomputable def fX11_withdraw (d : Dt) (a1 : Int) : Option (Dt × Int) :=
  (if (fX11_in a1 0 (w32 ((d 1545 56) - 1))) = 0 then some (d, (-1)) else (if (d 1545 64) = 0 then ck (0 ≤ a1 ∧ a1 < 54) <| (if (d 1586 a1) = 3 then some (d, (-4)) else sd d 1586 a1 3 fun d5 => bd (fX11_write d5 10 a1 0 0 0) fun d6 => some (d6, 1)) else some (d, (-3))))
noncomputable def fX0_nomination (d : Dt) (a1 a2 : Int) : Option Int :=
  (if (fX0_isNomination d a1) = 0 then some (-1) else ck (0 ≤ a1 ∧ a1 < 54) <| lv (d 58 a1) fun x3 => ck (x3 ≠ 0) <| (if a2 = 0 then some (d x3 0) else (if a2 = 1 then some (d x3 1) else (if a2 = 2 then some (d x3 2) else (if a2 = 3 then some (d x3 4) else (if a2 = 4 then some (d x3 6) else (if a2 = 5 then some (d x3 7) else some (-2))))))))
noncomputable def fX11_nomination (d : Dt) (a1 a2 : Int) : Option Int :=
  (if (fX11_in a1 0 (w32 ((d 1545 56) - 1))) = 0 then some (-1) else (if a2 = 0 then ck (0 ≤ a1 ∧ a1 < 54) <| some (d 1582 a1) else (if a2 = 1 then ck (0 ≤ a1 ∧ a1 < 54) <| some (d 1583 a1) else (if a2 = 2 then ck (0 ≤ a1 ∧ a1 < 54) <| some (d 1584 a1) else (if a2 = 3 then ck (0 ≤ a1 ∧ a1 < 54) <| some (d 1585 a1) else (if a2 = 4 then ck (0 ≤ a1 ∧ a1 < 54) <| some (d 1586 a1) else (if a2 = 5 then ck (0 ≤ a1 ∧ a1 < 54) <| some (d 1587 a1) else some (-2))))))))
noncomputable def fX9_add (d : Dt) (o a1 a2 : Int) : Option Dt :=
  lv (d o 6) fun x1 => ck (0 ≤ x1 ∧ x1 < 9) <| sd d (o + 2) x1 (d a1 1) fun d3 => lv (d3 o 6) fun x4 => ck (0 ≤ x4 ∧ x4 < 9) <| sd d3 (o + 3) x4 (d3 a1 2) fun d6 => lv (d6 o 6) fun x7 => ck (0 ≤ x7 ∧ x7 < 9) <| sd d6 (o + 4) x7 a2 fun d9 => lv (d9 o 6) fun x10 => ck (0 ≤ x10 ∧ x10 < 9) <| sd d9 (o + 5) x10 (0 % 2) fun d12 => lv (d12 o 6) fun x13 => ck (0 ≤ x13 ∧ x13 < 9) <| sd d12 (o + 6) x13 (d12 o 6) fun d15 => lv (d15 o 6) fun x16 => ck (0 ≤ x16 ∧ x16 < 9) <| sd d15 (o + 7) x16 (d15 o 6) fun d18 => sd d18 a1 7 (d18 o 6) fun d19 => sd d19 o 6 (w32 ((d19 o 6) + 1)) fun d20 => some d20
noncomputable def fX0_nominate_67 (d : Dt) (v1 v2 s0 s1 : Int) : Option ((Dt × Int) ⊕ Dt) :=
  sd d s0 6 s1 fun d18 => (if (d18 v2 6) = 1 then lv (d18 v2 0) fun x21 => ck (0 ≤ x21 ∧ x21 < 6) <| bd (fX9_add d18 (629 + 8 * x21) v2 v1) fun d23 => lv (w32 (v1 + 1)) fun x25 => some (Sum.inl (d23, x25)) else lv (w32 (v1 + 1)) fun x20 => some (Sum.inl (d18, x20)))
noncomputable def fX0_nominate_2f (s : Dt × Int) : Option ((Dt × Int) ⊕ Dt) := match s with
  | (d, v1) => (if (d 1 15) ≤ v1 then up (some d) else ck (0 ≤ v1 ∧ v1 < 54) <| lv (d 58 v1) fun x3 => ck (x3 ≠ 0) <| (if (d x3 5) = 0 then lv (d x3 1) fun x8 => ck (0 ≤ x8 ∧ x8 < 60) <| lv (d 9 x8) fun x10 => ck (x10 ≠ 0) <| (if (fX13_isAlive d x10 (d 1 2)) = 0 then fX0_nominate_67 d v1 x3 x3 4 else lv (d 1 7) fun x14 => ck (x14 ≠ 0) <| (if (d x14 3) ≤ (d x3 4) then fX0_nominate_67 d v1 x3 x3 1 else fX0_nominate_67 d v1 x3 x3 2)) else lv (w32 (v1 + 1)) fun x7 => some (Sum.inl (d, x7))))
noncomputable def fX0_nominate_2 (d : Dt) (v1 : Int) : Option Dt := loop (fX0_nominate_2f) (d, v1)
noncomputable def fX0_nominate (d : Dt) : Option Dt :=
  fX0_nominate_2 d 0
noncomputable def fX0_sheetOf_74 (d : Dt) (a1 v2 v3 v5 s0 s1 : Int) : Option ((Int × Int) ⊕ Int) :=
  lv (bOr s0 s1) fun x22 => lv (w32 (v5 + 1)) fun x23 => some (Sum.inl (x22, x23))
noncomputable def fX0_sheetOf_27f (d : Dt) (a1 v2 v3 : Int) (s : Int × Int) : Option ((Int × Int) ⊕ Int) := match s with
  | (v4, v5) => lv (d 1 7) fun x11 => ck (x11 ≠ 0) <| (if (d x11 14) ≤ v5 then up (some v4) else lv (d 1 7) fun x15 => ck (x15 ≠ 0) <| ck (0 ≤ v5 ∧ v5 < 6) <| b1 (fX1_isIn d (d ((x15 + 13) + v5) 0) v3 v2) fun x19 => (if x19 = 0 then fX0_sheetOf_74 d a1 v2 v3 v5 v4 0 else fX0_sheetOf_74 d a1 v2 v3 v5 v4 (bShl 1 v5)))
noncomputable def fX0_sheetOf_27 (d : Dt) (a1 v2 v3 v4 v5 : Int) : Option Int := loop (fX0_sheetOf_27f d a1 v2 v3) (v4, v5)
noncomputable def fX0_sheetOf (d : Dt) (a1 : Int) : Option Int :=
  lv (d 1 7) fun x1 => ck (x1 ≠ 0) <| lv (d (x1 + 1) 1) fun x4 => ck (0 ≤ a1 ∧ a1 < 60) <| lv (d 9 a1) fun x6 => ck (x6 ≠ 0) <| b1 (fX13_address d x6 x4) fun x9 => fX0_sheetOf_27 d a1 x4 x9 0 0
noncomputable def fX0_enroll (d : Dt) (a1 a2 : Int) : Option Dt :=
  lv (d 1 21) fun x1 => ck (0 ≤ x1 ∧ x1 < 60) <| sd d 60 x1 a1 fun d3 => lv (d3 1 21) fun x4 => ck (0 ≤ x4 ∧ x4 < 60) <| sd d3 61 x4 a2 fun d6 => lv (d6 1 21) fun x7 => ck (0 ≤ x7 ∧ x7 < 60) <| sd d6 62 x7 (1 % 2) fun d9 => ck (0 ≤ a1 ∧ a1 < 60) <| sd d9 63 a1 (d9 1 21) fun d11 => sd d11 1 21 (w32 ((d11 1 21) + 1)) fun d12 => some d12
noncomputable def fX0_freeze_49f (s : Dt × Int) : Option ((Dt × Int) ⊕ (Dt × Int)) := match s with
  | (d, v1) => (if (d 1 5) ≤ v1 then up (bd (fX0_write d 11 0 0 0 0) fun d11 => some (d11, (d11 1 21))) else b1 (fX0_sheetOf d v1) fun x13 => (if x13 = 0 then lv (w32 (v1 + 1)) fun x16 => some (Sum.inl (d, x16)) else ck (0 ≤ v1 ∧ v1 < 60) <| lv (d 9 v1) fun x18 => ck (x18 ≠ 0) <| lv (d 1 7) fun x21 => ck (x21 ≠ 0) <| (if (fX13_isAlive d x18 (d (x21 + 1) 1)) = 0 then lv (w32 (v1 + 1)) fun x25 => some (Sum.inl (d, x25)) else b2 (fX0_mayVote d v1) fun d26 x28 => (if x28 = 0 then lv (w32 (v1 + 1)) fun x30 => some (Sum.inl (d26, x30)) else bd (fX0_enroll d26 v1 x13) fun d31 => lv (w32 (v1 + 1)) fun x33 => some (Sum.inl (d31, x33))))))
noncomputable def fX0_freeze_49 (d : Dt) (v1 : Int) : Option (Dt × Int) := loop (fX0_freeze_49f) (d, v1)
noncomputable def fX0_freeze (d : Dt) : Option (Dt × Int) :=
  (if (d 1 9) = 0 then some (d, (-1)) else lv (d 1 7) fun x2 => ck (x2 ≠ 0) <| (if (d (x2 + 1) 1) ≤ (d 1 2) then (if (d 1 17) = 0 then sd d 1 17 1 fun d7 => bd (fX0_nominate d7) fun d8 => fX0_freeze_49 d8 0 else some (d, (-4))) else some (d, (-3))))
noncomputable def fX11_sheetOf_54 (d : Dt) (a1 v3 v4 s0 s1 : Int) : Option ((Int × Int) ⊕ Int) :=
  lv (bOr s0 s1) fun x13 => lv (w32 (v4 + 1)) fun x14 => some (Sum.inl (x13, x14))
noncomputable def fX11_sheetOf_16f (d : Dt) (a1 v3 : Int) (s : Int × Int) : Option ((Int × Int) ⊕ Int) := match s with
  | (v2, v4) => (if (d 1545 47) ≤ v4 then up (some v2) else b1 (fX11_contestIs d v4 0) fun x6 => b1 (fX11_lawIs d 1) fun x8 => b1 (fX11_isIn d x6 v3 x8) fun x10 => (if x10 = 0 then fX11_sheetOf_54 d a1 v3 v4 v2 0 else fX11_sheetOf_54 d a1 v3 v4 v2 (bShl 1 v4)))
noncomputable def fX11_sheetOf_16 (d : Dt) (a1 v2 v3 v4 : Int) : Option Int := loop (fX11_sheetOf_16f d a1 v3) (v2, v4)
noncomputable def fX11_sheetOf (d : Dt) (a1 : Int) : Option Int :=
  b1 (fX11_lawIs d 1) fun x1 => b1 (fX11_addressOn d a1 x1) fun x3 => fX11_sheetOf_16 d a1 0 x3 0
noncomputable def fX11_addRow (d : Dt) (a1 a2 : Int) : Option Dt :=
  lv (d 1545 71) fun x1 => ck (0 ≤ x1 ∧ x1 < 60) <| sd d 1595 x1 a1 fun d3 => lv (d3 1545 71) fun x4 => ck (0 ≤ x4 ∧ x4 < 60) <| sd d3 1596 x4 a2 fun d6 => lv (d6 1545 71) fun x7 => ck (0 ≤ x7 ∧ x7 < 60) <| sd d6 1597 x7 (1 % 2) fun d9 => sd d9 1545 71 (w32 ((d9 1545 71) + 1)) fun d10 => some d10
noncomputable def fX11_freeze_247 (d : Dt) (v1 s0 : Int) : Option ((Dt × Int) ⊕ (Dt × Int)) :=
  (if s0 = 0 then lv (w32 (v1 + 1)) fun x17 => some (Sum.inl (d, x17)) else bd (fX11_addRow d v1 s0) fun d18 => lv (w32 (v1 + 1)) fun x20 => some (Sum.inl (d18, x20)))
noncomputable def fX11_freeze_208f (s : Dt × Int) : Option ((Dt × Int) ⊕ (Dt × Int)) := match s with
  | (d, v1) => (if (d 1545 10) ≤ v1 then up (bd (fX11_write d 11 0 0 0 0) fun d9 => some (d9, (d9 1545 71))) else b1 (fX11_lawIs d 1) fun x11 => b1 (fX11_isAlive d v1 x11) fun x13 => (if x13 = 0 then fX11_freeze_247 d v1 0 else b2 (fX11_lets d v1 1) fun d21 x23 => (if x23 = 0 then fX11_freeze_247 d21 v1 0 else b1 (fX11_sheetOf d21 v1) fun x25 => fX11_freeze_247 d21 v1 x25)))
noncomputable def fX11_freeze_208 (d : Dt) (v1 : Int) : Option (Dt × Int) := loop (fX11_freeze_208f) (d, v1)
noncomputable def fX11_freeze_107 (d : Dt) (v1 s1 s2 : Int) : Option ((Dt × Int) ⊕ (Dt × Int)) :=
  ck (0 ≤ s1 ∧ s1 < 54) <| sd d 1586 s1 s2 fun d36 => ck (0 ≤ v1 ∧ v1 < 54) <| (if (d36 1586 v1) = 1 then lv (d36 1582 v1) fun x39 => ck (0 ≤ x39 ∧ x39 < 6) <| lv (d36 1589 x39) fun x41 => sd d36 1589 x39 (w32 ((d36 1589 x39) + 1)) fun d42 => sd d42 1587 v1 x41 fun d43 => lv (w32 ((w32 (9 * x39)) + x41)) fun x44 => ck (0 ≤ x44 ∧ x44 < 54) <| sd d43 1590 x44 v1 fun d46 => lv (w32 ((w32 (9 * x39)) + x41)) fun x47 => ck (0 ≤ x47 ∧ x47 < 54) <| sd d46 1591 x47 (0 % 2) fun d49 => lv (w32 ((w32 (9 * x39)) + x41)) fun x50 => ck (0 ≤ x50 ∧ x50 < 54) <| sd d49 1592 x50 x41 fun d52 => lv (w32 ((w32 (9 * x39)) + x41)) fun x53 => ck (0 ≤ x53 ∧ x53 < 54) <| sd d52 1593 x53 x41 fun d55 => lv (w32 (v1 + 1)) fun x56 => some (Sum.inl (d55, x56)) else lv (w32 (v1 + 1)) fun x57 => some (Sum.inl (d36, x57)))
noncomputable def fX11_freeze_41f (s : Dt × Int) : Option ((Dt × Int) ⊕ (Dt × Int)) := match s with
  | (d, v1) => (if (d 1545 56) ≤ v1 then up (fX11_freeze_208 d 0) else ck (0 ≤ v1 ∧ v1 < 54) <| (if (d 1586 v1) = 3 then lv (w32 (v1 + 1)) fun x58 => some (Sum.inl (d, x58)) else b1 (fX11_isAlive d (d 1583 v1) (d 1545 2)) fun x29 => (if x29 = 0 then fX11_freeze_107 d v1 v1 4 else b1 (fX11_lawIs d 5) fun x32 => (if x32 ≤ (d 1585 v1) then fX11_freeze_107 d v1 v1 1 else fX11_freeze_107 d v1 v1 2))))
noncomputable def fX11_freeze_41 (d : Dt) (v1 : Int) : Option (Dt × Int) := loop (fX11_freeze_41f) (d, v1)
noncomputable def fX11_freeze (d : Dt) : Option (Dt × Int) :=
  (if (d 1545 45) = 0 then some (d, (-1)) else b1 (fX11_lawIs d 1) fun x2 => (if x2 ≤ (d 1545 2) then (if (d 1545 64) = 0 then sd d 1545 64 1 fun d6 => fX11_freeze_41 d6 0 else some (d, (-4))) else some (d, (-3))))
noncomputable def fX0_roll (d : Dt) (a1 a2 : Int) : Option Int :=
  (if (fX0_within a1 0 (w32 ((d 1 21) - 1))) = 0 then some (-1) else (if a2 = 0 then ck (0 ≤ a1 ∧ a1 < 60) <| some (d 60 a1) else (if a2 = 1 then ck (0 ≤ a1 ∧ a1 < 60) <| some (d 61 a1) else (if a2 = 2 then ck (0 ≤ a1 ∧ a1 < 60) <| (if (d 62 a1) = 0 then some 0 else some 1) else some (-2)))))
noncomputable def fX11_roll (d : Dt) (a1 a2 : Int) : Option Int :=
  (if (fX11_in a1 0 (w32 ((d 1545 71) - 1))) = 0 then some (-1) else (if a2 = 0 then ck (0 ≤ a1 ∧ a1 < 60) <| some (d 1595 a1) else (if a2 = 1 then ck (0 ≤ a1 ∧ a1 < 60) <| some (d 1596 a1) else (if a2 = 2 then ck (0 ≤ a1 ∧ a1 < 60) <| (if (d 1597 a1) = 0 then some 0 else some 1) else some (-2)))))
noncomputable def fX0_appeal (d : Dt) (a1 a2 : Int) : Option (Dt × Int) :=
  (if (fX0_isPerson d a1) = 0 then some (d, (-1)) else (if (fX0_within a2 0 1) = 0 then some (d, (-2)) else (if (d 1 17) = 0 then some (d, (-3)) else lv (d 1 7) fun x4 => ck (x4 ≠ 0) <| (if (d 1 2) ≤ (d (x4 + 1) 3) then (if (d 1 26) = 60 then some (d, (-5)) else lv (d 1 26) fun x9 => ck (0 ≤ x9 ∧ x9 < 60) <| sd d 64 x9 a1 fun d11 => lv (d11 1 26) fun x12 => ck (0 ≤ x12 ∧ x12 < 60) <| sd d11 65 x12 a2 fun d14 => lv (d14 1 26) fun x15 => ck (0 ≤ x15 ∧ x15 < 60) <| sd d14 66 x15 (0 % 2) fun d17 => sd d17 1 26 (w32 ((d17 1 26) + 1)) fun d18 => bd (fX0_write d18 12 a1 a2 0 0) fun d19 => some (d19, (w32 ((d19 1 26) - 1)))) else some (d, (-3))))))
noncomputable def fX11_appeal (d : Dt) (a1 a2 : Int) : Option (Dt × Int) :=
  (if (fX11_isPerson d a1) = 0 then some (d, (-1)) else (if (fX11_in a2 0 1) = 0 then some (d, (-2)) else (if (d 1545 64) = 0 then some (d, (-3)) else b1 (fX11_lawIs d 3) fun x4 => (if (d 1545 2) ≤ x4 then (if (d 1545 75) = 60 then some (d, (-5)) else lv (d 1545 75) fun x8 => ck (0 ≤ x8 ∧ x8 < 60) <| sd d 1598 x8 a1 fun d10 => lv (d10 1545 75) fun x11 => ck (0 ≤ x11 ∧ x11 < 60) <| sd d10 1599 x11 a2 fun d13 => lv (d13 1545 75) fun x14 => ck (0 ≤ x14 ∧ x14 < 60) <| sd d13 1600 x14 (0 % 2) fun d16 => bd (fX11_write d16 12 a1 a2 0 0) fun d17 => lv (d17 1545 75) fun x19 => sd d17 1545 75 (w32 (x19 + 1)) fun d20 => some (d20, x19)) else some (d, (-3))))))
noncomputable def fX0_onRoll_27 (d : Dt) (v2 s0 s1 : Int) : Option ((Int × Int) ⊕ Int) :=
  lv (w32 (s0 + s1)) fun x4 => lv (w32 (v2 + 1)) fun x5 => some (Sum.inl (x4, x5))
noncomputable def fX0_onRoll_4f (d : Dt) (s : Int × Int) : Option ((Int × Int) ⊕ Int) := match s with
  | (v1, v2) => (if (d 1 21) ≤ v2 then up (some v1) else ck (0 ≤ v2 ∧ v2 < 60) <| (if (d 62 v2) = 0 then fX0_onRoll_27 d v2 v1 0 else fX0_onRoll_27 d v2 v1 1))
noncomputable def fX0_onRoll_4 (d : Dt) (v1 v2 : Int) : Option Int := loop (fX0_onRoll_4f d) (v1, v2)
noncomputable def fX0_onRoll (d : Dt) : Option Int :=
  fX0_onRoll_4 d 0 0
noncomputable def fX0_decide_181 (d : Dt) (a1 a2 : Int) : Option (Dt × Int) :=
  bd (fX0_write d 13 a1 a2 0 0) fun d20 => b1 (fX0_onRoll d20) fun x22 => some (d20, x22)
noncomputable def fX0_decide_180 (d : Dt) (a1 a2 s1 s2 : Int) : Option (Dt × Int) :=
  ck (0 ≤ s1 ∧ s1 < 60) <| sd d 62 s1 (s2 % 2) fun d27 => fX0_decide_181 d27 a1 a2
noncomputable def fX0_decide_127 (d : Dt) (a1 a2 v3 v4 v5 v6 : Int) : Option (Dt × Int) :=
  ck (0 ≤ a1 ∧ a1 < 60) <| sd d 66 a1 (1 % 2) fun d17 => (if v5 = 0 then (if a2 = 1 then (if v4 = (-1) then fX0_decide_181 d17 a1 a2 else (if (d17 65 a1) = 0 then fX0_decide_180 d17 a1 a2 v4 1 else fX0_decide_180 d17 a1 a2 v4 0)) else fX0_decide_181 d17 a1 a2) else bd (fX0_enroll d17 v3 v6) fun d28 => fX0_decide_181 d28 a1 a2)
noncomputable def fX0_decide_103 (d : Dt) (a1 a2 v3 v4 v5 s0 : Int) : Option (Dt × Int) :=
  ck (0 ≤ a1 ∧ a1 < 60) <| (if (d 66 a1) = 0 then (if v5 = 0 then fX0_decide_127 d a1 a2 v3 v4 v5 s0 else (if s0 = 0 then some (d, (-4)) else fX0_decide_127 d a1 a2 v3 v4 v5 s0)) else some (d, (-4)))
noncomputable def fX0_decide_87 (d : Dt) (a1 a2 v3 v4 s0 : Int) : Option (Dt × Int) :=
  (if s0 = 0 then fX0_decide_103 d a1 a2 v3 v4 s0 0 else b1 (fX0_sheetOf d v3) fun x31 => fX0_decide_103 d a1 a2 v3 v4 s0 x31)
noncomputable def fX0_decide (d : Dt) (a1 a2 : Int) : Option (Dt × Int) :=
  (if (fX0_within a1 0 (w32 ((d 1 26) - 1))) = 0 then some (d, (-1)) else (if (fX0_within a2 0 1) = 0 then some (d, (-2)) else lv (d 1 7) fun x3 => ck (x3 ≠ 0) <| (if (d 1 2) ≤ (d (x3 + 1) 3) then ck (0 ≤ a1 ∧ a1 < 60) <| lv (d 64 a1) fun x8 => ck (0 ≤ x8 ∧ x8 < 60) <| lv (d 63 x8) fun x10 => (if a2 = 1 then (if (d 65 a1) = 0 then (if x10 = (-1) then fX0_decide_87 d a1 a2 x8 x10 1 else fX0_decide_87 d a1 a2 x8 x10 0) else fX0_decide_87 d a1 a2 x8 x10 0) else fX0_decide_87 d a1 a2 x8 x10 0) else some (d, (-3)))))
noncomputable def fX11_rowOf_2f (d : Dt) (a1 : Int) (s : Int) : Option ((Int) ⊕ Int) := (fun v2 => (if (d 1545 71) ≤ v2 then up (some (-1)) else ck (0 ≤ v2 ∧ v2 < 60) <| (if (d 1595 v2) = a1 then up (some v2) else lv (w32 (v2 + 1)) fun x4 => some (Sum.inl x4)))) s
noncomputable def fX11_rowOf_2 (d : Dt) (a1 v2 : Int) : Option Int := loop (fX11_rowOf_2f d a1) v2
noncomputable def fX11_rowOf (d : Dt) (a1 : Int) : Option Int :=
  fX11_rowOf_2 d a1 0
noncomputable def fX11_rowsOn_27 (d : Dt) (v2 s0 s1 : Int) : Option ((Int × Int) ⊕ Int) :=
  lv (w32 (s0 + s1)) fun x4 => lv (w32 (v2 + 1)) fun x5 => some (Sum.inl (x4, x5))
noncomputable def fX11_rowsOn_4f (d : Dt) (s : Int × Int) : Option ((Int × Int) ⊕ Int) := match s with
  | (v1, v2) => (if (d 1545 71) ≤ v2 then up (some v1) else ck (0 ≤ v2 ∧ v2 < 60) <| (if (d 1597 v2) = 0 then fX11_rowsOn_27 d v2 v1 0 else fX11_rowsOn_27 d v2 v1 1))
noncomputable def fX11_rowsOn_4 (d : Dt) (v1 v2 : Int) : Option Int := loop (fX11_rowsOn_4f d) (v1, v2)
noncomputable def fX11_rowsOn (d : Dt) : Option Int :=
  fX11_rowsOn_4 d 0 0
noncomputable def fX11_decide_181 (d : Dt) (a1 a2 : Int) : Option (Dt × Int) :=
  bd (fX11_write d 13 a1 a2 0 0) fun d18 => b1 (fX11_rowsOn d18) fun x20 => some (d18, x20)
noncomputable def fX11_decide_180 (d : Dt) (a1 a2 s1 s2 : Int) : Option (Dt × Int) :=
  ck (0 ≤ s1 ∧ s1 < 60) <| sd d 1597 s1 (s2 % 2) fun d25 => fX11_decide_181 d25 a1 a2
noncomputable def fX11_decide_125 (d : Dt) (a1 a2 v3 v4 v5 : Int) : Option (Dt × Int) :=
  ck (0 ≤ a1 ∧ a1 < 60) <| sd d 1600 a1 (1 % 2) fun d15 => (if v4 = 0 then (if a2 = 1 then (if v3 < 0 then fX11_decide_181 d15 a1 a2 else (if (d15 1599 a1) = 0 then fX11_decide_180 d15 a1 a2 v3 1 else fX11_decide_180 d15 a1 a2 v3 0)) else fX11_decide_181 d15 a1 a2) else bd (fX11_addRow d15 (d15 1598 a1) v5) fun d26 => fX11_decide_181 d26 a1 a2)
noncomputable def fX11_decide_101 (d : Dt) (a1 a2 v3 v4 s0 : Int) : Option (Dt × Int) :=
  ck (0 ≤ a1 ∧ a1 < 60) <| (if (d 1600 a1) = 0 then (if v4 = 0 then fX11_decide_125 d a1 a2 v3 v4 s0 else (if s0 = 0 then some (d, (-4)) else fX11_decide_125 d a1 a2 v3 v4 s0)) else some (d, (-4)))
noncomputable def fX11_decide_80 (d : Dt) (a1 a2 v3 s0 : Int) : Option (Dt × Int) :=
  (if s0 = 0 then fX11_decide_101 d a1 a2 v3 s0 0 else ck (0 ≤ a1 ∧ a1 < 60) <| b1 (fX11_sheetOf d (d 1598 a1)) fun x30 => fX11_decide_101 d a1 a2 v3 s0 x30)
noncomputable def fX11_decide (d : Dt) (a1 a2 : Int) : Option (Dt × Int) :=
  (if (fX11_in a1 0 (w32 ((d 1545 75) - 1))) = 0 then some (d, (-1)) else (if (fX11_in a2 0 1) = 0 then some (d, (-2)) else b1 (fX11_lawIs d 3) fun x3 => (if (d 1545 2) ≤ x3 then ck (0 ≤ a1 ∧ a1 < 60) <| b1 (fX11_rowOf d (d 1598 a1)) fun x7 => (if a2 = 1 then (if (d 1599 a1) = 0 then (if 0 ≤ x7 then fX11_decide_80 d a1 a2 x7 0 else fX11_decide_80 d a1 a2 x7 1) else fX11_decide_80 d a1 a2 x7 0) else fX11_decide_80 d a1 a2 x7 0) else some (d, (-3)))))
noncomputable def fX0_nextSheet_4f (d : Dt) (a1 : Int) (s : Int × Int) : Option ((Int × Int) ⊕ Int) := match s with
  | (v2, v3) => (if (d 1 21) ≤ v3 then up (some v2) else ck (0 ≤ v3 ∧ v3 < 60) <| lv (d 61 v3) fun x3 => (if (d 62 v3) = 0 then lv (w32 (v3 + 1)) fun x5 => some (Sum.inl (v2, x5)) else (if x3 ≤ a1 then lv (w32 (v3 + 1)) fun x7 => some (Sum.inl (v2, x7)) else (if v2 = 0 then lv (w32 (v3 + 1)) fun x9 => some (Sum.inl (x3, x9)) else (if v2 ≤ x3 then lv (w32 (v3 + 1)) fun x11 => some (Sum.inl (v2, x11)) else lv (w32 (v3 + 1)) fun x12 => some (Sum.inl (x3, x12)))))))
noncomputable def fX0_nextSheet_4 (d : Dt) (a1 v2 v3 : Int) : Option Int := loop (fX0_nextSheet_4f d a1) (v2, v3)
noncomputable def fX0_nextSheet (d : Dt) (a1 : Int) : Option Int :=
  fX0_nextSheet_4 d a1 0 0
noncomputable def fX0_sheets_88 (d : Dt) (a1 a2 v3 v5 s0 s1 : Int) : Option ((Int × Int) ⊕ Int) :=
  lv (w32 (s0 + s1)) fun x11 => lv (w32 (v5 + 1)) fun x12 => some (Sum.inl (x11, x12))
noncomputable def fX0_sheets_51f (d : Dt) (a1 a2 v3 : Int) (s : Int × Int) : Option ((Int × Int) ⊕ Int) := match s with
  | (v4, v5) => (if (d 1 21) ≤ v5 then up ((if a2 = 0 then some v3 else (if a2 = 1 then some v4 else some (-2)))) else ck (0 ≤ v5 ∧ v5 < 60) <| (if (d 62 v5) = 0 then fX0_sheets_88 d a1 a2 v3 v5 v4 0 else (if (d 61 v5) = v3 then fX0_sheets_88 d a1 a2 v3 v5 v4 1 else fX0_sheets_88 d a1 a2 v3 v5 v4 0)))
noncomputable def fX0_sheets_51 (d : Dt) (a1 a2 v3 v4 v5 : Int) : Option Int := loop (fX0_sheets_51f d a1 a2 v3) (v4, v5)
noncomputable def fX0_sheets_39 (d : Dt) (a1 a2 v3 : Int) : Option Int :=
  (if v3 = 0 then some (-1) else fX0_sheets_51 d a1 a2 v3 0 0)
noncomputable def fX0_sheets_17f (d : Dt) (a1 a2 : Int) (s : Int × Int) : Option ((Int × Int) ⊕ Int) := match s with
  | (v3, v4) => (if a1 ≤ v4 then up (fX0_sheets_39 d a1 a2 v3) else (if v3 = 0 then up (fX0_sheets_39 d a1 a2 v3) else b1 (fX0_nextSheet d v3) fun x15 => lv (w32 (v4 + 1)) fun x17 => some (Sum.inl (x15, x17))))
noncomputable def fX0_sheets_17 (d : Dt) (a1 a2 v3 v4 : Int) : Option Int := loop (fX0_sheets_17f d a1 a2) (v3, v4)
noncomputable def fX0_sheets (d : Dt) (a1 a2 : Int) : Option Int :=
  (if 0 ≤ a1 then b1 (fX0_nextSheet d 0) fun x2 => fX0_sheets_17 d a1 a2 x2 0 else fX0_sheets_17 d a1 a2 0 0)
noncomputable def fX11_sheets_108 (d : Dt) (a1 a2 v4 s0 s1 : Int) : Option ((Int × Int) ⊕ Int) :=
  lv (w32 (s0 + s1)) fun x5 => lv (w32 (v4 + 1)) fun x6 => some (Sum.inl (x5, x6))
noncomputable def fX11_sheets_97 (d : Dt) (a1 a2 v3 v4 v5 : Int) : Option ((Int × Int) ⊕ Int) :=
  (if v5 ≤ 0 then fX11_sheets_108 d a1 a2 v4 v3 0 else fX11_sheets_108 d a1 a2 v4 v3 1)
noncomputable def fX11_sheets_56 (d : Dt) (a1 a2 v3 v4 v6 s0 s1 : Int) : Option ((Int × Int) ⊕ ((Int × Int) ⊕ Int)) :=
  lv (w32 (s0 + s1)) fun x12 => lv (w32 (v6 + 1)) fun x13 => some (Sum.inl (x12, x13))
noncomputable def fX11_sheets_18f (d : Dt) (a1 a2 v3 v4 : Int) (s : Int × Int) : Option ((Int × Int) ⊕ ((Int × Int) ⊕ Int)) := match s with
  | (v5, v6) => (if (d 1545 71) ≤ v6 then up ((if v5 ≤ 0 then fX11_sheets_97 d a1 a2 v3 v4 v5 else (if v3 = a1 then up ((if a2 = 0 then some v4 else (if a2 = 1 then some v5 else some (-2)))) else fX11_sheets_97 d a1 a2 v3 v4 v5))) else ck (0 ≤ v6 ∧ v6 < 60) <| (if (d 1597 v6) = 0 then fX11_sheets_56 d a1 a2 v3 v4 v6 v5 0 else (if (d 1596 v6) = v4 then fX11_sheets_56 d a1 a2 v3 v4 v6 v5 1 else fX11_sheets_56 d a1 a2 v3 v4 v6 v5 0)))
noncomputable def fX11_sheets_18 (d : Dt) (a1 a2 v3 v4 v5 v6 : Int) : Option ((Int × Int) ⊕ Int) := loop (fX11_sheets_18f d a1 a2 v3 v4) (v5, v6)
noncomputable def fX11_sheets_5f (d : Dt) (a1 a2 : Int) (s : Int × Int) : Option ((Int × Int) ⊕ Int) := match s with
  | (v3, v4) => (if 64 ≤ v4 then up (some (-1)) else fX11_sheets_18 d a1 a2 v3 v4 0 0)
noncomputable def fX11_sheets_5 (d : Dt) (a1 a2 v3 v4 : Int) : Option Int := loop (fX11_sheets_5f d a1 a2) (v3, v4)
noncomputable def fX11_sheets (d : Dt) (a1 a2 : Int) : Option Int :=
  fX11_sheets_5 d a1 a2 0 1
noncomputable def fX0_isCandidate (d : Dt) (a1 a2 : Int) : Option Int :=
  b1 (fX0_isContest d a1) fun x1 => (if x1 = 0 then some 0 else ck (0 ≤ a1 ∧ a1 < 6) <| (if (fX0_within a2 0 (w32 ((d (629 + 8 * a1) 6) - 1))) = 0 then some 0 else some 1))
noncomputable def fX0_candidate (d : Dt) (a1 a2 a3 : Int) : Option Int :=
  b1 (fX0_isCandidate d a1 a2) fun x1 => (if x1 = 0 then some (-1) else ck (0 ≤ a1 ∧ a1 < 6) <| lv (629 + 8 * a1) fun x5 => (if a3 = 0 then ck (0 ≤ a2 ∧ a2 < 9) <| some (d (x5 + 2) a2) else (if a3 = 1 then ck (0 ≤ a2 ∧ a2 < 9) <| some (d (x5 + 3) a2) else (if a3 = 2 then ck (0 ≤ a2 ∧ a2 < 9) <| some (d (x5 + 7) a2) else (if a3 = 3 then ck (0 ≤ a2 ∧ a2 < 9) <| (if (d (x5 + 5) a2) = 0 then some 0 else some 1) else (if a3 = 4 then ck (0 ≤ a2 ∧ a2 < 9) <| some (d (x5 + 4) a2) else some (-2)))))))
noncomputable def fX11_isCandidate (d : Dt) (a1 a2 : Int) : Option Int :=
  (if (fX11_isContest d a1) = 0 then some 0 else ck (0 ≤ a1 ∧ a1 < 6) <| (if (fX11_in a2 0 (w32 ((d 1589 a1) - 1))) = 0 then some 0 else some 1))
noncomputable def fX11_candidate (d : Dt) (a1 a2 a3 : Int) : Option Int :=
  b1 (fX11_isCandidate d a1 a2) fun x1 => (if x1 = 0 then some (-1) else lv (w32 ((w32 (9 * a1)) + a2)) fun x4 => (if a3 = 0 then ck (0 ≤ x4 ∧ x4 < 54) <| lv (d 1590 x4) fun x7 => ck (0 ≤ x7 ∧ x7 < 54) <| some (d 1583 x7) else (if a3 = 1 then ck (0 ≤ x4 ∧ x4 < 54) <| lv (d 1590 x4) fun x11 => ck (0 ≤ x11 ∧ x11 < 54) <| some (d 1584 x11) else (if a3 = 2 then ck (0 ≤ x4 ∧ x4 < 54) <| some (d 1593 x4) else (if a3 = 3 then ck (0 ≤ x4 ∧ x4 < 54) <| (if (d 1591 x4) = 0 then some 0 else some 1) else (if a3 = 4 then ck (0 ≤ x4 ∧ x4 < 54) <| some (d 1590 x4) else some (-2)))))))
def fX0_stepped (a1 : Int) : Int :=
  (w64 ((w64 (a1 * 6364136223846793005)) + 1442695040888963407))
noncomputable def fX0_placeOf (a1 a2 : Int) : Option Int :=
  ck (a2 ≠ 0) <| some (w32 (Int.tmod (jUshr a1 33) a2))
noncomputable def fX9_draw_71f (o a1 : Int) (s : Dt × Int) : Option ((Dt × Int) ⊕ Dt) := match s with
  | (d, v5) => (if (d o 6) ≤ v5 then up (sd d o 9 1 fun d4 => some d4) else ck (0 ≤ v5 ∧ v5 < 9) <| lv (d (o + 6) v5) fun x6 => ck (0 ≤ x6 ∧ x6 < 9) <| sd d (o + 7) x6 v5 fun d8 => lv (w32 (v5 + 1)) fun x9 => some (Sum.inl (d8, x9)))
noncomputable def fX9_draw_71 (d : Dt) (o a1 v5 : Int) : Option Dt := loop (fX9_draw_71f o a1) (d, v5)
noncomputable def fX9_draw_10f (o a1 : Int) (s : Dt × Int × Int) : Option ((Dt × Int × Int) ⊕ Dt) := match s with
  | (d, v3, v5) => (if v5 ≤ 0 then up (fX9_draw_71 d o a1 0) else lv (fX0_stepped v3) fun x10 => b1 (fX0_placeOf x10 (w32 (v5 + 1))) fun x11 => ck (0 ≤ v5 ∧ v5 < 9) <| lv (d (o + 6) v5) fun x14 => ck (0 ≤ x11 ∧ x11 < 9) <| sd d (o + 6) v5 (d (o + 6) x11) fun d16 => sd d16 (o + 6) x11 x14 fun d17 => lv (w32 (v5 + (-1))) fun x18 => some (Sum.inl (d17, x10, x18)))
noncomputable def fX9_draw_10 (d : Dt) (o a1 v3 v5 : Int) : Option Dt := loop (fX9_draw_10f o a1) (d, v3, v5)
noncomputable def fX9_draw (d : Dt) (o a1 : Int) : Option Dt :=
  lv (w32 ((d o 6) - 1)) fun x1 => fX9_draw_10 d o a1 a1 x1
noncomputable def fX0_lots (d : Dt) (a1 a2 : Int) : Option (Dt × Int) :=
  b1 (fX0_isContest d a1) fun x1 => (if x1 = 0 then some (d, (-1)) else (if (d 1 17) = 0 then some (d, (-3)) else ck (0 ≤ a1 ∧ a1 < 6) <| (if (d (629 + 8 * a1) 9) = 0 then bd (fX9_draw d (629 + 8 * a1) a2) fun d7 => bd (fX0_write d7 14 a1 (w32 (jShr a2 32)) (w32 a2) 0) fun d9 => some (d9, (d9 (629 + 8 * a1) 6)) else some (d, (-4)))))
def fX11_nextOf (a1 : Int) : Int :=
  (w64 ((w64 (a1 * 6364136223846793005)) + 1442695040888963407))
noncomputable def fX11_lots_138f (a1 a2 v4 : Int) (s : Dt × Int) : Option ((Dt × Int) ⊕ (Dt × Int)) := match s with
  | (d, v7) => ck (0 ≤ a1 ∧ a1 < 6) <| (if (d 1589 a1) ≤ v7 then up (bd (fX11_write d 14 a1 (w32 (jShr a2 32)) (w32 a2) 0) fun d11 => some (d11, (d11 1589 a1))) else lv (w32 (v4 + v7)) fun x13 => ck (0 ≤ x13 ∧ x13 < 54) <| lv (w32 (v4 + (d 1592 x13))) fun x15 => ck (0 ≤ x15 ∧ x15 < 54) <| sd d 1593 x15 v7 fun d17 => lv (w32 (v7 + 1)) fun x18 => some (Sum.inl (d17, x18)))
noncomputable def fX11_lots_138 (d : Dt) (a1 a2 v4 v7 : Int) : Option (Dt × Int) := loop (fX11_lots_138f a1 a2 v4) (d, v7)
noncomputable def fX11_lots_58f (a1 a2 v4 : Int) (s : Dt × Int × Int) : Option ((Dt × Int × Int) ⊕ (Dt × Int)) := match s with
  | (d, v5, v7) => (if v7 < 1 then up (fX11_lots_138 d a1 a2 v4 0) else lv (fX11_nextOf v5) fun x19 => lv (w32 (v7 + 1)) fun x20 => ck (x20 ≠ 0) <| lv (w32 (Int.tmod (jUshr x19 33) x20)) fun x22 => lv (w32 (v4 + v7)) fun x23 => ck (0 ≤ x23 ∧ x23 < 54) <| lv (d 1592 x23) fun x25 => lv (w32 (v4 + x22)) fun x26 => ck (0 ≤ x26 ∧ x26 < 54) <| lv (w32 (v4 + v7)) fun x28 => ck (0 ≤ x28 ∧ x28 < 54) <| sd d 1592 x28 (d 1592 x26) fun d30 => lv (w32 (v4 + x22)) fun x31 => ck (0 ≤ x31 ∧ x31 < 54) <| sd d30 1592 x31 x25 fun d33 => lv (w32 (v7 + (-1))) fun x34 => some (Sum.inl (d33, x19, x34)))
noncomputable def fX11_lots_58 (d : Dt) (a1 a2 v4 v5 v7 : Int) : Option (Dt × Int) := loop (fX11_lots_58f a1 a2 v4) (d, v5, v7)
noncomputable def fX11_lots (d : Dt) (a1 a2 : Int) : Option (Dt × Int) :=
  (if (fX11_isContest d a1) = 0 then some (d, (-1)) else (if (d 1545 64) = 0 then some (d, (-3)) else ck (0 ≤ a1 ∧ a1 < 6) <| (if (d 1594 a1) = 0 then sd d 1594 a1 (1 % 2) fun d5 => lv (w32 (9 * a1)) fun x6 => lv (w32 ((d5 1589 a1) - 1)) fun x7 => fX11_lots_58 d5 a1 a2 x6 a2 x7 else some (d, (-4)))))
noncomputable def fX0_station (d : Dt) : Option (Dt × Int) :=
  (if (d 1 9) = 0 then some (d, (-1)) else lv (d 1 7) fun x2 => ck (x2 ≠ 0) <| (if (d 1 2) ≤ (d (x2 + 1) 3) then (if (d 1 30) = 6 then some (d, (-5)) else lv (d 1 30) fun x7 => ck (0 ≤ x7 ∧ x7 < 6) <| sd d 67 x7 0 fun d9 => lv (d9 1 30) fun x10 => ck (0 ≤ x10 ∧ x10 < 6) <| sd d9 68 x10 (0 % 2) fun d12 => sd d12 1 30 (w32 ((d12 1 30) + 1)) fun d13 => bd (fX0_write d13 15 0 0 0 0) fun d14 => some (d14, (w32 ((d14 1 30) - 1)))) else some (d, (-3))))
noncomputable def fX11_station (d : Dt) : Option (Dt × Int) :=
  (if (d 1545 45) = 0 then some (d, (-1)) else b1 (fX11_lawIs d 3) fun x2 => (if (d 1545 2) ≤ x2 then (if (d 1545 79) = 6 then some (d, (-5)) else lv (d 1545 79) fun x6 => ck (0 ≤ x6 ∧ x6 < 6) <| sd d 1601 x6 0 fun d8 => lv (d8 1545 79) fun x9 => ck (0 ≤ x9 ∧ x9 < 6) <| sd d8 1602 x9 (0 % 2) fun d11 => bd (fX11_write d11 15 0 0 0 0) fun d12 => lv (d12 1545 79) fun x14 => sd d12 1545 79 (w32 (x14 + 1)) fun d15 => some (d15, x14)) else some (d, (-3))))
def fX0_isStation (d : Dt) (a1 : Int) : Int :=
  (fX0_within a1 0 (w32 ((d 1 30) - 1)))
noncomputable def fX0_clock (d : Dt) (a1 a2 : Int) : Option (Dt × Int) :=
  (if (fX0_isStation d a1) = 0 then some (d, (-1)) else (if (fX0_within a2 0 9) = 0 then some (d, (-2)) else ck (0 ≤ a1 ∧ a1 < 6) <| lv (d 67 a1) fun x4 => sd d 67 a1 a2 fun d5 => bd (fX0_write d5 16 a1 a2 0 0) fun d6 => some (d6, x4)))
def fX11_isStation (d : Dt) (a1 : Int) : Int :=
  (fX11_in a1 0 (w32 ((d 1545 79) - 1)))
noncomputable def fX11_clock (d : Dt) (a1 a2 : Int) : Option (Dt × Int) :=
  (if (fX11_isStation d a1) = 0 then some (d, (-1)) else (if (fX11_in a2 0 9) = 0 then some (d, (-2)) else ck (0 ≤ a1 ∧ a1 < 6) <| lv (d 1601 a1) fun x4 => sd d 1601 a1 a2 fun d5 => bd (fX11_write d5 16 a1 a2 0 0) fun d6 => some (d6, x4)))
noncomputable def fX0_knownTo (d : Dt) (a1 a2 : Int) : Option Int :=
  ck (0 ≤ a2 ∧ a2 < 200) <| lv (d 76 a2) fun x2 => ck (x2 ≠ 0) <| (if (d x2 2) = a1 then some (d x2 6) else ck (0 ≤ a1 ∧ a1 < 6) <| (if (d 68 a1) = 0 then (if (d x2 5) = 0 then some (-1) else some (d x2 6)) else some (d (70 + a1) a2)))
noncomputable def fX0_cutLine_73f (a1 : Int) (s : Dt × Int) : Option ((Dt × Int) ⊕ (Dt × Int)) := match s with
  | (d, v2) => (if 200 ≤ v2 then up (ck (0 ≤ a1 ∧ a1 < 6) <| sd d 68 a1 (1 % 2) fun d10 => bd (fX0_write d10 17 a1 0 0 0) fun d11 => some (d11, 1)) else ck (0 ≤ a1 ∧ a1 < 6) <| ck (0 ≤ v2 ∧ v2 < 200) <| sd d (70 + a1) v2 (w8 (-1)) fun d15 => lv (w32 (v2 + 1)) fun x16 => some (Sum.inl (d15, x16)))
noncomputable def fX0_cutLine_73 (d : Dt) (a1 v2 : Int) : Option (Dt × Int) := loop (fX0_cutLine_73f a1) (d, v2)
noncomputable def fX0_cutLine_39f (a1 : Int) (s : Dt × Int) : Option ((Dt × Int) ⊕ (Dt × Int)) := match s with
  | (d, v2) => (if (d 1 32) ≤ v2 then up (lv (d 1 32) fun x7 => fX0_cutLine_73 d a1 x7) else ck (0 ≤ a1 ∧ a1 < 6) <| b1 (fX0_knownTo d a1 v2) fun x18 => ck (0 ≤ v2 ∧ v2 < 200) <| sd d (70 + a1) v2 (w8 (w8 x18)) fun d21 => lv (w32 (v2 + 1)) fun x22 => some (Sum.inl (d21, x22)))
noncomputable def fX0_cutLine_39 (d : Dt) (a1 v2 : Int) : Option (Dt × Int) := loop (fX0_cutLine_39f a1) (d, v2)
noncomputable def fX0_cutLine (d : Dt) (a1 : Int) : Option (Dt × Int) :=
  (if (fX0_isStation d a1) = 0 then some (d, (-1)) else ck (0 ≤ a1 ∧ a1 < 7) <| (if (d (677 + 124 * a1) 4) = 0 then ck (0 ≤ a1 ∧ a1 < 6) <| (if (d 68 a1) = 0 then fX0_cutLine_39 d a1 0 else some (d, (-4))) else some (d, (-3))))
noncomputable def fX11_known (d : Dt) (a1 a2 : Int) : Option Int :=
  ck (0 ≤ a2 ∧ a2 < 200) <| (if (d 1604 a2) = a1 then some (d 1605 a2) else ck (0 ≤ a1 ∧ a1 < 6) <| (if (d 1602 a1) = 0 then (if (d 1607 a2) = 0 then some (-1) else some (d 1605 a2)) else lv (w32 ((w32 (200 * a1)) + a2)) fun x6 => ck (0 ≤ x6 ∧ x6 < 1200) <| some (d 1609 x6)))
noncomputable def fX11_cutLine_36f (a1 : Int) (s : Dt × Int) : Option ((Dt × Int) ⊕ (Dt × Int)) := match s with
  | (d, v2) => (if (d 1545 82) ≤ v2 then up (ck (0 ≤ a1 ∧ a1 < 6) <| sd d 1602 a1 (1 % 2) fun d8 => bd (fX11_write d8 17 a1 0 0 0) fun d9 => some (d9, 1)) else b1 (fX11_known d a1 v2) fun x11 => lv (w32 ((w32 (200 * a1)) + v2)) fun x13 => ck (0 ≤ x13 ∧ x13 < 1200) <| sd d 1609 x13 x11 fun d15 => lv (w32 (v2 + 1)) fun x16 => some (Sum.inl (d15, x16)))
noncomputable def fX11_cutLine_36 (d : Dt) (a1 v2 : Int) : Option (Dt × Int) := loop (fX11_cutLine_36f a1) (d, v2)
noncomputable def fX11_cutLine (d : Dt) (a1 : Int) : Option (Dt × Int) :=
  (if (fX11_isStation d a1) = 0 then some (d, (-1)) else ck (0 ≤ a1 ∧ a1 < 7) <| (if (d 1615 a1) = 0 then ck (0 ≤ a1 ∧ a1 < 6) <| (if (d 1602 a1) = 0 then fX11_cutLine_36 d a1 0 else some (d, (-4))) else some (d, (-3))))
def fX15_isBefore (d : Dt) (o a1 : Int) : Int :=
  (if (d o 3) = (d a1 3) then (if (d o 2) = (d a1 2) then (if (d a1 0) ≤ (d o 0) then 0 else 1) else (if (d a1 2) ≤ (d o 2) then 0 else 1)) else (if (d a1 3) ≤ (d o 3) then 0 else 1))
noncomputable def fX0_sortIssues_76 (d : Dt) (a1 v2 v3 v4 v5 : Int) : Option ((Dt × Int × Int) ⊕ (Dt × Int)) :=
  ck (0 ≤ v5 ∧ v5 < 200) <| sd d 77 v5 v4 fun d10 => lv (w32 (v2 + 1)) fun x11 => lv (w32 (v3 + 1)) fun x12 => some (Sum.inl (d10, x11, x12))
noncomputable def fX0_sortIssues_32f (a1 v2 v3 v4 : Int) (s : Dt × Int) : Option ((Dt × Int) ⊕ ((Dt × Int × Int) ⊕ (Dt × Int))) := match s with
  | (d, v5) => (if v5 ≤ 0 then up (fX0_sortIssues_76 d a1 v2 v3 v4 v5) else lv (w32 (v5 - 1)) fun x13 => ck (0 ≤ x13 ∧ x13 < 200) <| lv (d 77 x13) fun x15 => ck (x15 ≠ 0) <| (if (fX15_isBefore d v4 x15) = 0 then up (fX0_sortIssues_76 d a1 v2 v3 v4 v5) else lv (w32 (v5 - 1)) fun x19 => ck (0 ≤ x19 ∧ x19 < 200) <| lv (d 77 x19) fun x21 => ck (x21 ≠ 0) <| ck (0 ≤ v5 ∧ v5 < 200) <| sd d 77 v5 x21 fun d25 => lv (w32 (v5 + (-1))) fun x26 => some (Sum.inl (d25, x26))))
noncomputable def fX0_sortIssues_32 (d : Dt) (a1 v2 v3 v4 v5 : Int) : Option ((Dt × Int × Int) ⊕ (Dt × Int)) := loop (fX0_sortIssues_32f a1 v2 v3 v4) (d, v5)
noncomputable def fX0_sortIssues_4f (a1 : Int) (s : Dt × Int × Int) : Option ((Dt × Int × Int) ⊕ (Dt × Int)) := match s with
  | (d, v2, v3) => (if (d 1 32) ≤ v3 then up (some (d, v2)) else ck (0 ≤ v3 ∧ v3 < 200) <| lv (d 76 v3) fun x3 => ck (x3 ≠ 0) <| (if (d x3 2) = a1 then fX0_sortIssues_32 d a1 v2 v3 x3 v2 else lv (w32 (v3 + 1)) fun x7 => some (Sum.inl (d, v2, x7))))
noncomputable def fX0_sortIssues_4 (d : Dt) (a1 v2 v3 : Int) : Option (Dt × Int) := loop (fX0_sortIssues_4f a1) (d, v2, v3)
noncomputable def fX0_sortIssues (d : Dt) (a1 : Int) : Option (Dt × Int) :=
  fX0_sortIssues_4 d a1 0 0
def fX15_lives_2 (a1 : Int) : Int :=
  (if a1 = 0 then 1 else (if a1 = 2 then 1 else (if a1 = 3 then 1 else 0)))
def fX15_lives (d : Dt) (o : Int) : Int :=
  (fX15_lives_2 (d o 6))
noncomputable def fX0_rivalOf_2f (d : Dt) (a1 : Int) (s : Int) : Option ((Int) ⊕ Int) := (fun v2 => (if (d 1 32) ≤ v2 then up (some 0) else ck (0 ≤ v2 ∧ v2 < 200) <| lv (d 76 v2) fun x3 => ck (x3 ≠ 0) <| (if x3 = a1 then lv (w32 (v2 + 1)) fun x7 => some (Sum.inl x7) else (if (d x3 1) = (d a1 1) then (if (d x3 5) = 0 then lv (w32 (v2 + 1)) fun x11 => some (Sum.inl x11) else (if (fX15_lives d x3) = 0 then lv (w32 (v2 + 1)) fun x13 => some (Sum.inl x13) else up (some x3))) else lv (w32 (v2 + 1)) fun x9 => some (Sum.inl x9))))) s
noncomputable def fX0_rivalOf_2 (d : Dt) (a1 v2 : Int) : Option Int := loop (fX0_rivalOf_2f d a1) v2
noncomputable def fX0_rivalOf (d : Dt) (a1 : Int) : Option Int :=
  fX0_rivalOf_2 d a1 0
noncomputable def fX0_settle_57 (d : Dt) (a1 v2 s0 : Int) : Option Dt :=
  (if s0 = 0 then sd d a1 6 4 fun d6 => some d6 else sd d v2 6 4 fun d7 => some d7)
noncomputable def fX0_settle_21 (d : Dt) (a1 s0 : Int) : Option Dt :=
  (if s0 = 0 then some d else (if (d s0 6) = 3 then fX0_settle_57 d a1 s0 0 else (if (d s0 2) = 6 then fX0_settle_57 d a1 s0 1 else (if (fX15_isBefore d a1 s0) = 0 then fX0_settle_57 d a1 s0 0 else fX0_settle_57 d a1 s0 1))))
noncomputable def fX0_settle (d : Dt) (a1 : Int) : Option Dt :=
  sd d a1 5 1 fun d1 => (if (fX15_lives d1 a1) = 0 then fX0_settle_21 d1 a1 0 else b1 (fX0_rivalOf d1 a1) fun x10 => fX0_settle_21 d1 a1 x10)
noncomputable def fX0_fieldsOf_33 (d : Dt) (a1 v3 s0 s1 : Int) : Option ((Int × Int) ⊕ Int) :=
  lv (w32 (s0 + s1)) fun x3 => lv (w32 (v3 + 1)) fun x4 => some (Sum.inl (x3, x4))
noncomputable def fX0_fieldsOf_4f (d : Dt) (a1 : Int) (s : Int × Int) : Option ((Int × Int) ⊕ Int) := match s with
  | (v2, v3) => (if 6 ≤ v3 then up (some v2) else (if (bAnd (bShr a1 v3) 1) = 1 then ck (0 ≤ v3 ∧ v3 < 6) <| fX0_fieldsOf_33 d a1 v3 v2 (d (629 + 8 * v3) 6) else fX0_fieldsOf_33 d a1 v3 v2 0))
noncomputable def fX0_fieldsOf_4 (d : Dt) (a1 v2 v3 : Int) : Option Int := loop (fX0_fieldsOf_4f d a1) (v2, v3)
noncomputable def fX0_fieldsOf (d : Dt) (a1 : Int) : Option Int :=
  fX0_fieldsOf_4 d a1 0 0
noncomputable def fX10_isBehind_29f (d : Dt) (o a1 a2 a3 a4 : Int) (s : Int) : Option ((Int) ⊕ Int) := (fun v5 => (if a4 ≤ v5 then up (some 0) else ck (0 ≤ a1 ∧ a1 < 60) <| ck (0 ≤ v5 ∧ v5 < 54) <| (if (d ((o + 3) + a1) v5) = (d a3 v5) then lv (w32 (v5 + 1)) fun x7 => some (Sum.inl x7) else up ((if (d ((o + 3) + a1) v5) ≤ (d a3 v5) then some 0 else some 1))))) s
noncomputable def fX10_isBehind_29 (d : Dt) (o a1 a2 a3 a4 v5 : Int) : Option Int := loop (fX10_isBehind_29f d o a1 a2 a3 a4) v5
noncomputable def fX10_isBehind (d : Dt) (o a1 a2 a3 a4 : Int) : Option Int :=
  ck (0 ≤ a1 ∧ a1 < 60) <| (if (d (o + 1) a1) = a2 then fX10_isBehind_29 d o a1 a2 a3 a4 0 else (if (d (o + 1) a1) ≤ a2 then some 0 else some 1))
noncomputable def fX10_put_70 (d : Dt) (o a1 a2 a3 v4 : Int) : Option Dt :=
  ck (0 ≤ v4 ∧ v4 < 60) <| sd d (o + 1) v4 a1 fun d4 => ck ((0 : Int) ≤ 0 ∧ (0 : Int) ≤ 0 ∧ (0 : Int) ≤ a3 ∧ 0 + a3 ≤ 54 ∧ 0 + a3 ≤ 54) <| cd d4 a2 0 ((o + 3) + v4) 0 a3 fun d5 => sd d5 o 3 (w32 ((d5 o 3) + 1)) fun d7 => some d7
noncomputable def fX10_put_6f (o a1 a2 a3 : Int) (s : Dt × Int) : Option ((Dt × Int) ⊕ Dt) := match s with
  | (d, v4) => (if v4 ≤ 0 then up (fX10_put_70 d o a1 a2 a3 v4) else b1 (fX10_isBehind d o (w32 (v4 - 1)) a1 a2 a3) fun x8 => (if x8 = 0 then up (fX10_put_70 d o a1 a2 a3 v4) else lv (w32 (v4 - 1)) fun x11 => ck (0 ≤ x11 ∧ x11 < 60) <| ck (0 ≤ v4 ∧ v4 < 60) <| sd d (o + 1) v4 (d (o + 1) x11) fun d14 => lv (w32 (v4 - 1)) fun x15 => ck (0 ≤ x15 ∧ x15 < 60) <| cd d14 ((o + 3) + x15) 0 ((o + 3) + v4) 0 54 fun d17 => lv (w32 (v4 + (-1))) fun x18 => some (Sum.inl (d17, x18))))
noncomputable def fX10_put_6 (d : Dt) (o a1 a2 a3 v4 : Int) : Option Dt := loop (fX10_put_6f o a1 a2 a3) (d, v4)
noncomputable def fX10_put (d : Dt) (o a1 a2 a3 : Int) : Option Dt :=
  lv (d o 3) fun x1 => fX10_put_6 d o a1 a2 a3 x1
noncomputable def fX0_intoBox (d : Dt) (a1 : Int) : Option Dt :=
  sd d a1 6 3 fun d1 => lv (d1 a1 2) fun x2 => ck (0 ≤ x2 ∧ x2 < 7) <| b1 (fX0_fieldsOf d1 (d1 a1 4)) fun x4 => bd (fX10_put d1 (677 + 124 * x2) (d1 a1 4) (a1 + 1) x4) fun d6 => some d6
noncomputable def fX0_mend_95 (d : Dt) (a1 v2 v4 v5 s0 s1 : Int) : Option ((Dt × Int × Int) ⊕ (Dt × Int)) :=
  lv (w32 (s0 + s1)) fun x18 => (if (d v5 6) = 2 then bd (fX0_intoBox d v5) fun d21 => lv (w32 (v4 + 1)) fun x23 => some (Sum.inl (d21, x18, x23)) else lv (w32 (v4 + 1)) fun x20 => some (Sum.inl (d, x18, x20)))
noncomputable def fX0_mend_76 (d : Dt) (a1 v2 v3 v4 v5 v6 : Int) : Option ((Dt × Int × Int) ⊕ (Dt × Int)) :=
  (if v6 = 0 then fX0_mend_95 d a1 v2 v4 v5 v3 0 else (if (fX15_lives d v5) = 0 then fX0_mend_95 d a1 v2 v4 v5 v3 1 else fX0_mend_95 d a1 v2 v4 v5 v3 0))
noncomputable def fX0_mend_40f (a1 v2 : Int) (s : Dt × Int × Int) : Option ((Dt × Int × Int) ⊕ (Dt × Int)) := match s with
  | (d, v3, v4) => (if v2 ≤ v4 then up (bd (fX0_write d 18 a1 0 0 0) fun d9 => some (d9, v3)) else ck (0 ≤ v4 ∧ v4 < 200) <| lv (d 77 v4) fun x12 => ck (x12 ≠ 0) <| lv (fX15_lives d x12) fun x15 => (if (d x12 5) = 0 then bd (fX0_settle d x12) fun d25 => fX0_mend_76 d25 a1 v2 v3 v4 x12 x15 else fX0_mend_76 d a1 v2 v3 v4 x12 x15))
noncomputable def fX0_mend_40 (d : Dt) (a1 v2 v3 v4 : Int) : Option (Dt × Int) := loop (fX0_mend_40f a1 v2) (d, v3, v4)
noncomputable def fX0_mend (d : Dt) (a1 : Int) : Option (Dt × Int) :=
  (if (fX0_isStation d a1) = 0 then some (d, (-1)) else ck (0 ≤ a1 ∧ a1 < 6) <| (if (d 68 a1) = 0 then some (d, (-4)) else sd d 68 a1 (0 % 2) fun d4 => b2 (fX0_sortIssues d4 a1) fun d5 x7 => fX0_mend_40 d5 a1 x7 0 0))
noncomputable def fX11_voidsOf_38 (d : Dt) (a1 v3 s0 s1 : Int) : Option ((Int × Int) ⊕ Int) :=
  lv (w32 (s0 + s1)) fun x4 => lv (w32 (v3 + 1)) fun x5 => some (Sum.inl (x4, x5))
noncomputable def fX11_voidsOf_4f (d : Dt) (a1 : Int) (s : Int × Int) : Option ((Int × Int) ⊕ Int) := match s with
  | (v2, v3) => (if (d 1545 82) ≤ v3 then up (some v2) else ck (0 ≤ v3 ∧ v3 < 200) <| (if (d 1604 v3) = a1 then (if (d 1605 v3) = 4 then fX11_voidsOf_38 d a1 v3 v2 1 else fX11_voidsOf_38 d a1 v3 v2 0) else fX11_voidsOf_38 d a1 v3 v2 0))
noncomputable def fX11_voidsOf_4 (d : Dt) (a1 v2 v3 : Int) : Option Int := loop (fX11_voidsOf_4f d a1) (v2, v3)
noncomputable def fX11_voidsOf (d : Dt) (a1 : Int) : Option Int :=
  fX11_voidsOf_4 d a1 0 0
noncomputable def fX11_isBehind (d : Dt) (a1 a2 : Int) : Option Int :=
  ck (0 ≤ a1 ∧ a1 < 200) <| ck (0 ≤ a2 ∧ a2 < 200) <| (if (d 1606 a1) = (d 1606 a2) then (if (d 1604 a1) = (d 1604 a2) then (if a1 ≤ a2 then some 0 else some 1) else (if (d 1604 a1) ≤ (d 1604 a2) then some 0 else some 1)) else (if (d 1606 a1) ≤ (d 1606 a2) then some 0 else some 1))
noncomputable def fX11_lives (d : Dt) (a1 : Int) : Option Int :=
  ck (0 ≤ a1 ∧ a1 < 200) <| (if (d 1605 a1) = 0 then some 1 else (if (d 1605 a1) = 2 then some 1 else (if (d 1605 a1) = 3 then some 1 else some 0)))
noncomputable def fX11_joins_117 (d : Dt) (a1 v2 : Int) : Option Dt :=
  ck (0 ≤ v2 ∧ v2 < 200) <| sd d 1605 v2 4 fun d12 => some d12
noncomputable def fX11_joins_4f (d : Dt) (a1 : Int) (s : Int × Int) : Option ((Int × Int) ⊕ Dt) := match s with
  | (v2, v3) => (if (d 1545 82) ≤ v3 then up (ck (0 ≤ a1 ∧ a1 < 200) <| sd d 1607 a1 (1 % 2) fun d3 => b1 (fX11_lives d3 a1) fun x4 => (if x4 = 0 then some d3 else (if 0 ≤ v2 then ck (0 ≤ v2 ∧ v2 < 200) <| (if (d3 1605 v2) = 3 then sd d3 1605 a1 4 fun d17 => some d17 else (if (d3 1604 v2) = 6 then fX11_joins_117 d3 a1 v2 else b1 (fX11_isBehind d3 v2 a1) fun x13 => (if x13 = 0 then sd d3 1605 a1 4 fun d16 => some d16 else fX11_joins_117 d3 a1 v2))) else some d3))) else (if v3 = a1 then lv (w32 (v3 + 1)) fun x19 => some (Sum.inl (v2, x19)) else ck (0 ≤ v3 ∧ v3 < 200) <| (if (d 1607 v3) = 0 then lv (w32 (v3 + 1)) fun x22 => some (Sum.inl (v2, x22)) else ck (0 ≤ a1 ∧ a1 < 200) <| (if (d 1603 v3) = (d 1603 a1) then b1 (fX11_lives d v3) fun x26 => (if x26 = 0 then lv (w32 (v3 + 1)) fun x29 => some (Sum.inl (v2, x29)) else lv (w32 (v3 + 1)) fun x30 => some (Sum.inl (v3, x30))) else lv (w32 (v3 + 1)) fun x25 => some (Sum.inl (v2, x25))))))
noncomputable def fX11_joins_4 (d : Dt) (a1 v2 v3 : Int) : Option Dt := loop (fX11_joins_4f d a1) (v2, v3)
noncomputable def fX11_joins (d : Dt) (a1 : Int) : Option Dt :=
  fX11_joins_4 d a1 (-1) 0
noncomputable def fX11_marksOf_32 (d : Dt) (a1 v3 s0 s1 : Int) : Option ((Int × Int) ⊕ Int) :=
  lv (w32 (s0 + s1)) fun x3 => lv (w32 (v3 + 1)) fun x4 => some (Sum.inl (x3, x4))
noncomputable def fX11_marksOf_4f (d : Dt) (a1 : Int) (s : Int × Int) : Option ((Int × Int) ⊕ Int) := match s with
  | (v2, v3) => (if (d 1545 47) ≤ v3 then up (some v2) else (if (bAnd (bShr a1 v3) 1) = 1 then ck (0 ≤ v3 ∧ v3 < 6) <| fX11_marksOf_32 d a1 v3 v2 (d 1589 v3) else fX11_marksOf_32 d a1 v3 v2 0))
noncomputable def fX11_marksOf_4 (d : Dt) (a1 v2 v3 : Int) : Option Int := loop (fX11_marksOf_4f d a1) (v2, v3)
noncomputable def fX11_marksOf (d : Dt) (a1 : Int) : Option Int :=
  fX11_marksOf_4 d a1 0 0
noncomputable def fX11_isAhead_50f (d : Dt) (a1 a2 v3 : Int) (s : Int) : Option ((Int) ⊕ Int) := (fun v4 => (if v3 ≤ v4 then up (some 0) else lv (w32 ((w32 (54 * a1)) + v4)) fun x7 => ck (0 ≤ x7 ∧ x7 < 10800) <| lv (d 1610 x7) fun x9 => lv (w32 ((w32 (54 * a2)) + v4)) fun x10 => ck (0 ≤ x10 ∧ x10 < 10800) <| lv (d 1610 x10) fun x12 => (if x9 = x12 then lv (w32 (v4 + 1)) fun x14 => some (Sum.inl x14) else up ((if x12 ≤ x9 then some 0 else some 1))))) s
noncomputable def fX11_isAhead_50 (d : Dt) (a1 a2 v3 v4 : Int) : Option Int := loop (fX11_isAhead_50f d a1 a2 v3) v4
noncomputable def fX11_isAhead (d : Dt) (a1 a2 : Int) : Option Int :=
  ck (0 ≤ a1 ∧ a1 < 200) <| ck (0 ≤ a2 ∧ a2 < 200) <| (if (d 1608 a1) = (d 1608 a2) then b1 (fX11_marksOf d (d 1608 a1)) fun x4 => fX11_isAhead_50 d a1 a2 x4 0 else (if (d 1608 a2) ≤ (d 1608 a1) then some 0 else some 1))
noncomputable def fX11_intoBox_72 (d : Dt) (a1 a2 v3 : Int) : Option Dt :=
  lv (w32 ((w32 (200 * a2)) + v3)) fun x6 => ck (0 ≤ x6 ∧ x6 < 1400) <| sd d 1614 x6 a1 fun d8 => ck (0 ≤ a2 ∧ a2 < 7) <| sd d8 1613 a2 (w32 ((d8 1613 a2) + 1)) fun d10 => some d10
noncomputable def fX11_intoBox_14f (a1 a2 : Int) (s : Dt × Int) : Option ((Dt × Int) ⊕ Dt) := match s with
  | (d, v3) => (if v3 ≤ 0 then up (fX11_intoBox_72 d a1 a2 v3) else lv (w32 ((w32 ((w32 (200 * a2)) + v3)) - 1)) fun x11 => ck (0 ≤ x11 ∧ x11 < 1400) <| b1 (fX11_isAhead d a1 (d 1614 x11)) fun x13 => (if x13 = 0 then up (fX11_intoBox_72 d a1 a2 v3) else lv (w32 ((w32 ((w32 (200 * a2)) + v3)) - 1)) fun x16 => ck (0 ≤ x16 ∧ x16 < 1400) <| lv (w32 ((w32 (200 * a2)) + v3)) fun x18 => ck (0 ≤ x18 ∧ x18 < 1400) <| sd d 1614 x18 (d 1614 x16) fun d20 => lv (w32 (v3 + (-1))) fun x21 => some (Sum.inl (d20, x21))))
noncomputable def fX11_intoBox_14 (d : Dt) (a1 a2 v3 : Int) : Option Dt := loop (fX11_intoBox_14f a1 a2) (d, v3)
noncomputable def fX11_intoBox (d : Dt) (a1 a2 : Int) : Option Dt :=
  ck (0 ≤ a1 ∧ a1 < 200) <| sd d 1605 a1 3 fun d2 => ck (0 ≤ a2 ∧ a2 < 7) <| lv (d2 1613 a2) fun x4 => fX11_intoBox_14 d2 a1 a2 x4
noncomputable def fX11_mend_189 (d : Dt) (a1 v2 : Int) : Option (Dt × Int) :=
  bd (fX11_write d 18 a1 0 0 0) fun d9 => b1 (fX11_voidsOf d9 a1) fun x11 => some (d9, (w32 (x11 - v2)))
noncomputable def fX11_mend_165 (d : Dt) (a1 v2 v3 v4 : Int) : Option ((Dt × Int) ⊕ (Dt × Int)) :=
  ck (0 ≤ v4 ∧ v4 < 200) <| (if (d 1605 v4) = 2 then bd (fX11_intoBox d v4 a1) fun d21 => lv (w32 (v3 + 1)) fun x23 => some (Sum.inl (d21, x23)) else lv (w32 (v3 + 1)) fun x20 => some (Sum.inl (d, x20)))
noncomputable def fX11_mend_88f (d : Dt) (a1 v2 v3 : Int) (s : Int × Int) : Option ((Int × Int) ⊕ ((Dt × Int) ⊕ (Dt × Int))) := match s with
  | (v4, v5) => (if (d 1545 82) ≤ v5 then up ((if 0 ≤ v4 then ck (0 ≤ v4 ∧ v4 < 200) <| sd d 1612 v4 (1 % 2) fun d16 => (if (d16 1607 v4) = 0 then bd (fX11_joins d16 v4) fun d24 => fX11_mend_165 d24 a1 v2 v3 v4 else fX11_mend_165 d16 a1 v2 v3 v4) else up (fX11_mend_189 d a1 v2))) else ck (0 ≤ v5 ∧ v5 < 200) <| (if (d 1612 v5) = 0 then (if v4 < 0 then lv (w32 (v5 + 1)) fun x30 => some (Sum.inl (v5, x30)) else b1 (fX11_isBehind d v4 v5) fun x31 => (if x31 = 0 then lv (w32 (v5 + 1)) fun x34 => some (Sum.inl (v4, x34)) else lv (w32 (v5 + 1)) fun x35 => some (Sum.inl (v5, x35)))) else lv (w32 (v5 + 1)) fun x28 => some (Sum.inl (v4, x28))))
noncomputable def fX11_mend_88 (d : Dt) (a1 v2 v3 v4 v5 : Int) : Option ((Dt × Int) ⊕ (Dt × Int)) := loop (fX11_mend_88f d a1 v2 v3) (v4, v5)
noncomputable def fX11_mend_74f (a1 v2 : Int) (s : Dt × Int) : Option ((Dt × Int) ⊕ (Dt × Int)) := match s with
  | (d, v3) => (if (d 1545 82) ≤ v3 then up (fX11_mend_189 d a1 v2) else fX11_mend_88 d a1 v2 v3 (-1) 0)
noncomputable def fX11_mend_74 (d : Dt) (a1 v2 v3 : Int) : Option (Dt × Int) := loop (fX11_mend_74f a1 v2) (d, v3)
noncomputable def fX11_mend_65 (d : Dt) (a1 v2 v3 s1 s2 : Int) : Option ((Dt × Int) ⊕ (Dt × Int)) :=
  ck (0 ≤ s1 ∧ s1 < 200) <| sd d 1612 s1 (s2 % 2) fun d39 => lv (w32 (v3 + 1)) fun x40 => some (Sum.inl (d39, x40))
noncomputable def fX11_mend_37f (a1 v2 : Int) (s : Dt × Int) : Option ((Dt × Int) ⊕ (Dt × Int)) := match s with
  | (d, v3) => (if (d 1545 82) ≤ v3 then up (fX11_mend_74 d a1 v2 0) else ck (0 ≤ v3 ∧ v3 < 200) <| (if (d 1604 v3) = a1 then fX11_mend_65 d a1 v2 v3 v3 0 else fX11_mend_65 d a1 v2 v3 v3 1))
noncomputable def fX11_mend_37 (d : Dt) (a1 v2 v3 : Int) : Option (Dt × Int) := loop (fX11_mend_37f a1 v2) (d, v3)
noncomputable def fX11_mend (d : Dt) (a1 : Int) : Option (Dt × Int) :=
  (if (fX11_isStation d a1) = 0 then some (d, (-1)) else ck (0 ≤ a1 ∧ a1 < 6) <| (if (d 1602 a1) = 0 then some (d, (-4)) else sd d 1602 a1 (0 % 2) fun d4 => b1 (fX11_voidsOf d4 a1) fun x5 => fX11_mend_37 d4 a1 x5 0))
noncomputable def fX0_isVoting (d : Dt) : Option Int :=
  (if (d 1 17) = 0 then some 0 else lv (d 1 7) fun x2 => ck (x2 ≠ 0) <| lv (d 1 7) fun x5 => ck (x5 ≠ 0) <| (if (fX0_within (d 1 2) (d (x2 + 1) 2) (d (x5 + 1) 3)) = 0 then some 0 else some 1))
noncomputable def fX0_isOnRoll (d : Dt) (a1 : Int) : Option Int :=
  ck (0 ≤ a1 ∧ a1 < 60) <| (if (d 63 a1) = (-1) then some 0 else lv (d 63 a1) fun x3 => ck (0 ≤ x3 ∧ x3 < 60) <| (if (d 62 x3) = 0 then some 0 else some 1))
noncomputable def fX0_hasIssue_56 (d : Dt) (a1 a2 v3 v4 v5 s0 : Int) : Option ((Int) ⊕ Int) :=
  (if (d v4 1) = a2 then (if (fX15_lives_2 v5) = 0 then lv (w32 (v3 + 1)) fun x13 => some (Sum.inl x13) else (if s0 = 0 then up (some 1) else lv (w32 (v3 + 1)) fun x15 => some (Sum.inl x15))) else lv (w32 (v3 + 1)) fun x11 => some (Sum.inl x11))
noncomputable def fX0_hasIssue_2f (d : Dt) (a1 a2 : Int) (s : Int) : Option ((Int) ⊕ Int) := (fun v3 => (if (d 1 32) ≤ v3 then up (some 0) else ck (0 ≤ v3 ∧ v3 < 200) <| lv (d 76 v3) fun x3 => ck (x3 ≠ 0) <| b1 (fX0_knownTo d a1 v3) fun x6 => ck (0 ≤ a1 ∧ a1 < 6) <| (if (d 68 a1) = 0 then (if (d x3 2) = 6 then (if x6 = 3 then fX0_hasIssue_56 d a1 a2 v3 x3 x6 0 else fX0_hasIssue_56 d a1 a2 v3 x3 x6 1) else fX0_hasIssue_56 d a1 a2 v3 x3 x6 0) else fX0_hasIssue_56 d a1 a2 v3 x3 x6 0))) s
noncomputable def fX0_hasIssue_2 (d : Dt) (a1 a2 v3 : Int) : Option Int := loop (fX0_hasIssue_2f d a1 a2) v3
noncomputable def fX0_hasIssue (d : Dt) (a1 a2 : Int) : Option Int :=
  fX0_hasIssue_2 d a1 a2 0
noncomputable def fX0_give (d m : Dt) (a1 a2 a3 a4 : Int) : Option (Dt × Dt × Int) :=
  lv (m 0 0) fun o1 => ck (0 ≤ a1 ∧ a1 < 60) <| lv (d 63 a1) fun x3 => ck (0 ≤ x3 ∧ x3 < 60) <| lm (nwX15 o1 (d 1 32) a1 a2 a3 (d 61 x3) d) fun d5 => lm (nt_X15 m) fun m6 => ck (a4 = 0 ∨ a4 = 1) <| sd d5 o1 5 a4 fun d8 => lv (d8 1 32) fun x9 => ck (0 ≤ x9 ∧ x9 < 200) <| sd d8 76 x9 o1 fun d11 => sd d11 1 32 (w32 ((d11 1 32) + 1)) fun d12 => some (d12, m6, (w32 ((d12 1 32) - 1)))
noncomputable def fX0_checkIn_172 (d m : Dt) (a1 a2 s1 s2 s3 s4 : Int) : Option (Dt × Dt × Int) :=
  b3 (fX0_give d m s1 s2 s3 s4) fun d20 m21 x23 => some (d20, m21, x23)
noncomputable def fX0_checkIn_139 (d m : Dt) (a1 a2 : Int) : Option (Dt × Dt × Int) :=
  bd (fX0_write d 19 a1 a2 0 0) fun d16 => ck (0 ≤ a1 ∧ a1 < 6) <| (if (d16 68 a1) = 0 then fX0_checkIn_172 d16 m a1 a2 a2 a1 (d16 67 a1) 1 else fX0_checkIn_172 d16 m a1 a2 a2 a1 (d16 67 a1) 0)
noncomputable def fX0_checkIn_75f (m : Dt) (a1 a2 : Int) (s : Dt × Int) : Option ((Dt × Int) ⊕ (Dt × Dt × Int)) := match s with
  | (d, v3) => (if (d 1 32) ≤ v3 then up (fX0_checkIn_139 d m a1 a2) else ck (0 ≤ a1 ∧ a1 < 6) <| (if (d 68 a1) = 0 then ck (0 ≤ v3 ∧ v3 < 200) <| lv (d 76 v3) fun x27 => ck (x27 ≠ 0) <| (if (d x27 1) = a2 then (if (d x27 2) = 6 then (if (fX15_lives d x27) = 0 then lv (w32 (v3 + 1)) fun x35 => some (Sum.inl (d, x35)) else sd d x27 6 4 fun d36 => lv (w32 (v3 + 1)) fun x37 => some (Sum.inl (d36, x37))) else lv (w32 (v3 + 1)) fun x33 => some (Sum.inl (d, x33))) else lv (w32 (v3 + 1)) fun x31 => some (Sum.inl (d, x31))) else up (fX0_checkIn_139 d m a1 a2)))
noncomputable def fX0_checkIn_75 (d m : Dt) (a1 a2 v3 : Int) : Option (Dt × Dt × Int) := loop (fX0_checkIn_75f m a1 a2) (d, v3)
noncomputable def fX0_checkIn (d m : Dt) (a1 a2 : Int) : Option (Dt × Dt × Int) :=
  (if (fX0_isStation d a1) = 0 then some (d, m, (-1)) else (if (fX0_isPerson d a2) = 0 then some (d, m, (-1)) else b1 (fX0_isVoting d) fun x3 => (if x3 = 0 then some (d, m, (-3)) else ck (0 ≤ a1 ∧ a1 < 7) <| (if (d (677 + 124 * a1) 4) = 0 then b1 (fX0_isOnRoll d a2) fun x8 => (if x8 = 0 then some (d, m, (-4)) else b1 (fX0_hasIssue d a1 a2) fun x11 => (if x11 = 0 then (if (d 1 32) = 200 then some (d, m, (-5)) else fX0_checkIn_75 d m a1 a2 0) else some (d, m, (-4)))) else some (d, m, (-3))))))
noncomputable def fX11_isVoting (d : Dt) : Option Int :=
  (if (d 1545 45) = 0 then some 0 else (if (d 1545 64) = 0 then some 0 else b1 (fX11_lawIs d 2) fun x3 => b1 (fX11_lawIs d 3) fun x5 => (if (fX11_in (d 1545 2) x3 x5) = 0 then some 0 else some 1)))
noncomputable def fX11_isOnRoll (d : Dt) (a1 : Int) : Option Int :=
  b1 (fX11_rowOf d a1) fun x1 => (if x1 < 0 then some 0 else ck (0 ≤ x1 ∧ x1 < 60) <| (if (d 1597 x1) = 0 then some 0 else some 1))
noncomputable def fX11_give_94f (a1 a2 a3 v4 : Int) (s : Dt × Int) : Option ((Dt × Int) ⊕ (Dt × Int)) := match s with
  | (d, v5) => (if 6 ≤ v5 then up (some (d, v4)) else lv (w32 ((w32 (200 * v5)) + v4)) fun x18 => ck (0 ≤ x18 ∧ x18 < 1200) <| sd d 1609 x18 (-1) fun d20 => lv (w32 (v5 + 1)) fun x21 => some (Sum.inl (d20, x21)))
noncomputable def fX11_give_94 (d : Dt) (a1 a2 a3 v4 v5 : Int) : Option (Dt × Int) := loop (fX11_give_94f a1 a2 a3 v4) (d, v5)
noncomputable def fX11_give_64 (d : Dt) (a1 a2 a3 v4 s1 s2 s3 : Int) : Option (Dt × Int) :=
  ck (0 ≤ s1 ∧ s1 < 200) <| sd d 1606 s1 (w32 (s2 + s3)) fun d10 => ck (0 ≤ v4 ∧ v4 < 200) <| sd d10 1607 v4 (a3 % 2) fun d12 => b1 (fX11_rowOf d12 a1) fun x13 => ck (0 ≤ x13 ∧ x13 < 60) <| sd d12 1608 v4 (d12 1596 x13) fun d16 => fX11_give_94 d16 a1 a2 a3 v4 0
noncomputable def fX11_give (d : Dt) (a1 a2 a3 : Int) : Option (Dt × Int) :=
  lv (d 1545 82) fun x1 => sd d 1545 82 (w32 ((d 1545 82) + 1)) fun d2 => ck (0 ≤ x1 ∧ x1 < 200) <| sd d2 1603 x1 a1 fun d4 => sd d4 1604 x1 a2 fun d5 => sd d5 1605 x1 0 fun d6 => (if a2 = 6 then fX11_give_64 d6 a1 a2 a3 x1 x1 x1 0 else ck (0 ≤ a2 ∧ a2 < 6) <| fX11_give_64 d6 a1 a2 a3 x1 x1 x1 (d6 1601 a2))
noncomputable def fX11_checkIn_186 (d : Dt) (a1 a2 s1 s2 s3 : Int) : Option (Dt × Int) :=
  b2 (fX11_give d s1 s2 s3) fun d16 x18 => bd (fX11_write d16 19 a1 a2 0 0) fun d19 => some (d19, x18)
noncomputable def fX11_checkIn_169 (d : Dt) (a1 a2 : Int) : Option (Dt × Int) :=
  ck (0 ≤ a1 ∧ a1 < 6) <| (if (d 1602 a1) = 0 then fX11_checkIn_186 d a1 a2 a2 a1 1 else fX11_checkIn_186 d a1 a2 a2 a1 0)
noncomputable def fX11_checkIn_106 (d : Dt) (a1 a2 v4 v5 : Int) : Option ((Int × Int) ⊕ (Dt × Int)) :=
  ck (0 ≤ a1 ∧ a1 < 6) <| (if (d 1602 a1) = 0 then ck (0 ≤ v4 ∧ v4 < 200) <| (if (d 1604 v4) = 6 then (if v5 = 3 then up (some (d, (-4))) else lv (w32 (v4 + 1)) fun x31 => some (Sum.inl (v4, x31))) else up (some (d, (-4)))) else up (some (d, (-4))))
noncomputable def fX11_checkIn_84 (d : Dt) (a1 a2 v3 v4 s0 : Int) : Option ((Int × Int) ⊕ (Dt × Int)) :=
  (if s0 = 0 then fX11_checkIn_106 d a1 a2 v4 s0 else (if s0 = 2 then fX11_checkIn_106 d a1 a2 v4 s0 else (if s0 = 3 then fX11_checkIn_106 d a1 a2 v4 s0 else lv (w32 (v4 + 1)) fun x34 => some (Sum.inl (v3, x34)))))
noncomputable def fX11_checkIn_53f (d : Dt) (a1 a2 : Int) (s : Int × Int) : Option ((Int × Int) ⊕ (Dt × Int)) := match s with
  | (v3, v4) => (if (d 1545 82) ≤ v4 then up ((if (d 1545 82) = 200 then some (d, (-5)) else (if v3 < 0 then fX11_checkIn_169 d a1 a2 else ck (0 ≤ v3 ∧ v3 < 200) <| sd d 1605 v3 4 fun d22 => fX11_checkIn_169 d22 a1 a2))) else ck (0 ≤ v4 ∧ v4 < 200) <| (if (d 1603 v4) = a2 then b1 (fX11_known d a1 v4) fun x35 => fX11_checkIn_84 d a1 a2 v3 v4 x35 else fX11_checkIn_84 d a1 a2 v3 v4 (-1)))
noncomputable def fX11_checkIn_53 (d : Dt) (a1 a2 v3 v4 : Int) : Option (Dt × Int) := loop (fX11_checkIn_53f d a1 a2) (v3, v4)
noncomputable def fX11_checkIn (d : Dt) (a1 a2 : Int) : Option (Dt × Int) :=
  (if (fX11_isStation d a1) = 0 then some (d, (-1)) else (if (fX11_isPerson d a2) = 0 then some (d, (-1)) else b1 (fX11_isVoting d) fun x3 => (if x3 = 0 then some (d, (-3)) else ck (0 ≤ a1 ∧ a1 < 7) <| (if (d 1615 a1) = 0 then b1 (fX11_isOnRoll d a2) fun x8 => (if x8 = 0 then some (d, (-4)) else fX11_checkIn_53 d a1 a2 (-1) 0) else some (d, (-3))))))
def fX0_isIssue (d : Dt) (a1 : Int) : Int :=
  (fX0_within a1 0 (w32 ((d 1 32) - 1)))
noncomputable def fX0_spoil_95 (d : Dt) (a1 v2 v3 : Int) : Option (Dt × Int) :=
  (if (d v2 2) = 6 then some (d, (-4)) else (if (d v2 6) = 0 then lv (d 1 7) fun x12 => ck (x12 ≠ 0) <| (if v3 < (d x12 5) then sd d v2 6 1 fun d16 => bd (fX0_write d16 20 a1 0 0 0) fun d17 => some (d17, (w32 (v3 + 1))) else some (d, (-4))) else some (d, (-4))))
noncomputable def fX0_spoil_87 (d : Dt) (a1 v2 v4 s0 s1 : Int) : Option ((Int × Int) ⊕ (Dt × Int)) :=
  lv (w32 (s0 + s1)) fun x25 => lv (w32 (v4 + 1)) fun x26 => some (Sum.inl (x25, x26))
noncomputable def fX0_spoil_32f (d : Dt) (a1 v2 : Int) (s : Int × Int) : Option ((Int × Int) ⊕ (Dt × Int)) := match s with
  | (v3, v4) => (if (d 1 32) ≤ v4 then up (fX0_spoil_95 d a1 v2 v3) else (if (d v2 2) = 6 then up (fX0_spoil_95 d a1 v2 v3) else ck (0 ≤ v4 ∧ v4 < 200) <| lv (d 76 v4) fun x21 => ck (x21 ≠ 0) <| (if (d x21 1) = (d v2 1) then b1 (fX0_knownTo d (d v2 2) v4) fun x27 => (if x27 = 1 then fX0_spoil_87 d a1 v2 v4 v3 1 else fX0_spoil_87 d a1 v2 v4 v3 0) else fX0_spoil_87 d a1 v2 v4 v3 0)))
noncomputable def fX0_spoil_32 (d : Dt) (a1 v2 v3 v4 : Int) : Option (Dt × Int) := loop (fX0_spoil_32f d a1 v2) (v3, v4)
noncomputable def fX0_spoil (d : Dt) (a1 : Int) : Option (Dt × Int) :=
  (if (fX0_isIssue d a1) = 0 then some (d, (-1)) else b1 (fX0_isVoting d) fun x2 => (if x2 = 0 then some (d, (-3)) else ck (0 ≤ a1 ∧ a1 < 200) <| lv (d 76 a1) fun x6 => ck (x6 ≠ 0) <| fX0_spoil_32 d a1 x6 0 0))
def fX11_isIssue (d : Dt) (a1 : Int) : Int :=
  (fX11_in a1 0 (w32 ((d 1545 82) - 1)))
noncomputable def fX11_isAtStation (d : Dt) (a1 : Int) : Option Int :=
  ck (0 ≤ a1 ∧ a1 < 200) <| (if (d 1604 a1) = 6 then some 0 else (if (d 1605 a1) = 0 then some 1 else some 0))
noncomputable def fX11_spoiledOf_48 (d : Dt) (a1 v3 s0 s1 : Int) : Option ((Int × Int) ⊕ Int) :=
  lv (w32 (s0 + s1)) fun x5 => lv (w32 (v3 + 1)) fun x6 => some (Sum.inl (x5, x6))
noncomputable def fX11_spoiledOf_4f (d : Dt) (a1 : Int) (s : Int × Int) : Option ((Int × Int) ⊕ Int) := match s with
  | (v2, v3) => (if (d 1545 82) ≤ v3 then up (some v2) else ck (0 ≤ v3 ∧ v3 < 200) <| ck (0 ≤ a1 ∧ a1 < 200) <| (if (d 1603 v3) = (d 1603 a1) then b1 (fX11_known d (d 1604 a1) v3) fun x7 => (if x7 = 1 then fX11_spoiledOf_48 d a1 v3 v2 1 else fX11_spoiledOf_48 d a1 v3 v2 0) else fX11_spoiledOf_48 d a1 v3 v2 0))
noncomputable def fX11_spoiledOf_4 (d : Dt) (a1 v2 v3 : Int) : Option Int := loop (fX11_spoiledOf_4f d a1) (v2, v3)
noncomputable def fX11_spoiledOf (d : Dt) (a1 : Int) : Option Int :=
  fX11_spoiledOf_4 d a1 0 0
noncomputable def fX11_spoil (d : Dt) (a1 : Int) : Option (Dt × Int) :=
  (if (fX11_isIssue d a1) = 0 then some (d, (-1)) else b1 (fX11_isVoting d) fun x2 => (if x2 = 0 then some (d, (-3)) else b1 (fX11_isAtStation d a1) fun x5 => (if x5 = 0 then some (d, (-4)) else b1 (fX11_spoiledOf d a1) fun x8 => b1 (fX11_lawIs d 7) fun x10 => (if x8 < x10 then ck (0 ≤ a1 ∧ a1 < 200) <| sd d 1605 a1 1 fun d14 => bd (fX11_write d14 20 a1 0 0 0) fun d15 => b1 (fX11_spoiledOf d15 a1) fun x17 => some (d15, x17) else some (d, (-4))))))
noncomputable def fX0_isSheet_18f (d : Dt) (a1 a2 : Int) (s : Int × Int) : Option ((Int × Int) ⊕ Int) := match s with
  | (v3, v4) => (if a1 ≤ v4 then up ((ck (v3 = 0 ∨ v3 = 1) <| some v3)) else (if v3 = 0 then up ((ck (v3 = 0 ∨ v3 = 1) <| some v3)) else ck (0 ≤ v4 ∧ v4 < 4000) <| lv (fX0_within (d 2 v4) 0 9) fun x7 => lv (w32 (v4 + 1)) fun x8 => some (Sum.inl (x7, x8))))
noncomputable def fX0_isSheet_18 (d : Dt) (a1 a2 v3 v4 : Int) : Option Int := loop (fX0_isSheet_18f d a1 a2) (v3, v4)
noncomputable def fX0_isSheet (d : Dt) (a1 a2 : Int) : Option Int :=
  b1 (fX0_fieldsOf d a2) fun x1 => (if a1 = x1 then fX0_isSheet_18 d a1 a2 1 0 else fX0_isSheet_18 d a1 a2 0 0)
noncomputable def fX0_put_110 (d : Dt) (a1 v3 : Int) : Option (Dt × Int) :=
  bd (fX0_write d 21 (d v3 2) 0 0 0) fun d23 => some (d23, (d23 v3 6))
noncomputable def fX0_put (d : Dt) (a1 : Int) : Option (Dt × Int) :=
  lv (d 1 1) fun x1 => sd d 1 1 0 fun d2 => (if (fX0_isIssue d2 a1) = 0 then some (d2, (-1)) else b1 (fX0_isVoting d2) fun x4 => (if x4 = 0 then some (d2, (-3)) else ck (0 ≤ a1 ∧ a1 < 200) <| lv (d2 76 a1) fun x8 => ck (x8 ≠ 0) <| (if (d2 x8 2) = 6 then some (d2, (-4)) else (if (d2 x8 6) = 0 then b1 (fX0_isSheet d2 x1 (d2 x8 4)) fun x13 => (if x13 = 0 then some (d2, (-2)) else ck ((0 : Int) ≤ 0 ∧ (0 : Int) ≤ 0 ∧ (0 : Int) ≤ x1 ∧ 0 + x1 ≤ 4000 ∧ 0 + x1 ≤ 54) <| cd d2 2 0 (x8 + 1) 0 x1 fun d16 => lv (d16 x8 2) fun x18 => ck (0 ≤ x18 ∧ x18 < 6) <| (if (d16 68 x18) = 0 then bd (fX0_intoBox d16 x8) fun d21 => fX0_put_110 d21 a1 x8 else sd d16 x8 6 2 fun d25 => fX0_put_110 d25 a1 x8)) else some (d2, (-4))))))
noncomputable def fX11_areMarks_23f (d : Dt) (a1 a2 : Int) (s : Int × Int) : Option ((Int × Int) ⊕ Int) := match s with
  | (v3, v4) => (if a2 ≤ v4 then up ((ck (v3 = 0 ∨ v3 = 1) <| some v3)) else (if v3 = 0 then up ((ck (v3 = 0 ∨ v3 = 1) <| some v3)) else ck (0 ≤ v4 ∧ v4 < 4000) <| lv (fX11_in (d 1546 v4) 0 9) fun x8 => lv (w32 (v4 + 1)) fun x9 => some (Sum.inl (x8, x9))))
noncomputable def fX11_areMarks_23 (d : Dt) (a1 a2 v3 v4 : Int) : Option Int := loop (fX11_areMarks_23f d a1 a2) (v3, v4)
noncomputable def fX11_areMarks (d : Dt) (a1 a2 : Int) : Option Int :=
  ck (0 ≤ a1 ∧ a1 < 200) <| b1 (fX11_marksOf d (d 1608 a1)) fun x2 => (if a2 = x2 then fX11_areMarks_23 d a1 a2 1 0 else fX11_areMarks_23 d a1 a2 0 0)
noncomputable def fX11_keepMarks (d : Dt) (a1 a2 : Int) : Option Dt :=
  lv (w32 (54 * a1)) fun x1 => ck ((0 : Int) ≤ 0 ∧ (0 : Int) ≤ x1 ∧ (0 : Int) ≤ a2 ∧ 0 + a2 ≤ 4000 ∧ x1 + a2 ≤ 10800) <| cd d 1546 0 1610 x1 a2 fun d2 => lv (w32 (54 * a1)) fun x4 => ck ((0 : Int) ≤ 0 ∧ (0 : Int) ≤ x4 ∧ (0 : Int) ≤ a2 ∧ 0 + a2 ≤ 4000 ∧ x4 + a2 ≤ 10800) <| cd d2 1546 0 1611 x4 a2 fun d5 => some d5
noncomputable def fX11_put_91 (d : Dt) (a1 v3 : Int) : Option (Dt × Int) :=
  bd (fX11_write d 21 v3 0 0 0) fun d21 => ck (0 ≤ a1 ∧ a1 < 200) <| some (d21, (d21 1605 a1))
noncomputable def fX11_put (d : Dt) (a1 : Int) : Option (Dt × Int) :=
  lv (d 1545 1) fun x1 => sd d 1545 1 0 fun d2 => (if (fX11_isIssue d2 a1) = 0 then some (d2, (-1)) else b1 (fX11_isVoting d2) fun x4 => (if x4 = 0 then some (d2, (-3)) else b1 (fX11_isAtStation d2 a1) fun x7 => (if x7 = 0 then some (d2, (-4)) else b1 (fX11_areMarks d2 a1 x1) fun x10 => (if x10 = 0 then some (d2, (-2)) else bd (fX11_keepMarks d2 a1 x1) fun d13 => ck (0 ≤ a1 ∧ a1 < 200) <| lv (d13 1604 a1) fun x16 => ck (0 ≤ x16 ∧ x16 < 6) <| (if (d13 1602 x16) = 0 then bd (fX11_intoBox d13 a1 x16) fun d19 => fX11_put_91 d19 a1 x16 else sd d13 1605 a1 2 fun d24 => fX11_put_91 d24 a1 x16)))))
noncomputable def fX0_isMailing (d : Dt) : Option Int :=
  lv (d 1 7) fun x1 => ck (x1 ≠ 0) <| (if (d x1 2) = 0 then some 0 else (if (d 1 17) = 0 then some 0 else lv (d 1 7) fun x6 => ck (x6 ≠ 0) <| (if (d (x6 + 1) 3) < (d 1 2) then some 0 else (if (d 1421 4) = 0 then some 1 else some 0))))
noncomputable def fX0_hasJoined_55 (d : Dt) (a1 v3 s0 s1 : Int) : Option ((Int × Int) ⊕ Int) :=
  lv (bOr s0 s1) fun x7 => lv (w32 (v3 + 1)) fun x8 => some (Sum.inl (x7, x8))
noncomputable def fX0_hasJoined_4f (d : Dt) (a1 : Int) (s : Int × Int) : Option ((Int × Int) ⊕ Int) := match s with
  | (v2, v3) => (if (d 1 32) ≤ v3 then up ((ck (v2 = 0 ∨ v2 = 1) <| some v2)) else ck (0 ≤ v3 ∧ v3 < 200) <| lv (d 76 v3) fun x3 => ck (x3 ≠ 0) <| (if (d x3 1) = a1 then lv (d 76 v3) fun x9 => ck (x9 ≠ 0) <| (if (d x9 5) = 0 then fX0_hasJoined_55 d a1 v3 v2 0 else lv (d 76 v3) fun x13 => ck (x13 ≠ 0) <| (if (fX15_lives d x13) = 0 then fX0_hasJoined_55 d a1 v3 v2 0 else fX0_hasJoined_55 d a1 v3 v2 1)) else fX0_hasJoined_55 d a1 v3 v2 0))
noncomputable def fX0_hasJoined_4 (d : Dt) (a1 v2 v3 : Int) : Option Int := loop (fX0_hasJoined_4f d a1) (v2, v3)
noncomputable def fX0_hasJoined (d : Dt) (a1 : Int) : Option Int :=
  fX0_hasJoined_4 d a1 0 0
noncomputable def fX0_ask (d m : Dt) (a1 : Int) : Option (Dt × Dt × Int) :=
  (if (fX0_isPerson d a1) = 0 then some (d, m, (-1)) else (if (d 1 9) = 0 then some (d, m, (-3)) else b1 (fX0_isMailing d) fun x3 => (if x3 = 0 then some (d, m, (-3)) else b1 (fX0_isOnRoll d a1) fun x6 => (if x6 = 0 then some (d, m, (-4)) else b1 (fX0_hasJoined d a1) fun x9 => (if x9 = 0 then (if (d 1 32) = 200 then some (d, m, (-5)) else bd (fX0_write d 22 a1 0 0 0) fun d13 => b3 (fX0_give d13 m a1 6 0 1) fun d15 m16 x18 => some (d15, m16, x18)) else some (d, m, (-4)))))))
noncomputable def fX11_isMailShut (d : Dt) : Option Int :=
  (if (d 1545 45) = 0 then some 1 else b1 (fX11_lawIs d 8) fun x2 => (if x2 = 0 then some 1 else (if (d 1545 64) = 0 then some 1 else b1 (fX11_lawIs d 3) fun x6 => (if x6 < (d 1545 2) then some 1 else (if (d 1615 6) = 0 then some 0 else some 1)))))
noncomputable def fX11_ask_65 (d : Dt) (a1 v3 s0 s1 : Int) : Option ((Int × Int) ⊕ (Dt × Int)) :=
  lv (bOr s0 s1) fun x18 => lv (w32 (v3 + 1)) fun x19 => some (Sum.inl (x18, x19))
noncomputable def fX11_ask_24f (d : Dt) (a1 : Int) (s : Int × Int) : Option ((Int × Int) ⊕ (Dt × Int)) := match s with
  | (v2, v3) => (if (d 1545 82) ≤ v3 then up (b1 (fX11_isOnRoll d a1) fun x6 => (if x6 = 0 then some (d, (-4)) else (if v2 = 0 then (if (d 1545 82) = 200 then some (d, (-5)) else b2 (fX11_give d a1 6 1) fun d11 x13 => bd (fX11_write d11 22 a1 0 0 0) fun d14 => some (d14, x13)) else some (d, (-4))))) else ck (0 ≤ v3 ∧ v3 < 200) <| (if (d 1603 v3) = a1 then (if (d 1607 v3) = 0 then fX11_ask_65 d a1 v3 v2 0 else b1 (fX11_lives d v3) fun x21 => (if x21 = 0 then fX11_ask_65 d a1 v3 v2 0 else fX11_ask_65 d a1 v3 v2 1)) else fX11_ask_65 d a1 v3 v2 0))
noncomputable def fX11_ask_24 (d : Dt) (a1 v2 v3 : Int) : Option (Dt × Int) := loop (fX11_ask_24f d a1) (v2, v3)
noncomputable def fX11_ask (d : Dt) (a1 : Int) : Option (Dt × Int) :=
  (if (fX11_isPerson d a1) = 0 then some (d, (-1)) else b1 (fX11_isMailShut d) fun x2 => (if x2 = 0 then fX11_ask_24 d a1 0 0 else some (d, (-3))))
noncomputable def fX0_arrive_111 (d : Dt) (a1 a2 v4 s0 s1 : Int) : Option (Dt × Int) :=
  sd d s0 6 s1 fun d20 => bd (fX0_write d20 23 a2 0 0 0) fun d21 => some (d21, (d21 v4 6))
noncomputable def fX0_arrive (d : Dt) (a1 a2 : Int) : Option (Dt × Int) :=
  lv (d 1 1) fun x1 => sd d 1 1 0 fun d2 => (if (fX0_isIssue d2 a1) = 0 then some (d2, (-1)) else b1 (fX0_isMailing d2) fun x4 => (if x4 = 0 then some (d2, (-3)) else ck (0 ≤ a1 ∧ a1 < 200) <| lv (d2 76 a1) fun x8 => ck (x8 ≠ 0) <| (if (d2 x8 2) = 6 then (if (d2 x8 6) = 0 then (if (fX0_within a2 0 1) = 0 then some (d2, (-2)) else b1 (fX0_isSheet d2 x1 (d2 x8 4)) fun x14 => (if x14 = 0 then some (d2, (-2)) else ck ((0 : Int) ≤ 0 ∧ (0 : Int) ≤ 0 ∧ (0 : Int) ≤ x1 ∧ 0 + x1 ≤ 4000 ∧ 0 + x1 ≤ 54) <| cd d2 2 0 (x8 + 1) 0 x1 fun d17 => (if a2 = 1 then fX0_arrive_111 d17 a1 a2 x8 x8 2 else fX0_arrive_111 d17 a1 a2 x8 x8 4))) else some (d2, (-4))) else some (d2, (-4)))))
noncomputable def fX11_arrive_96 (d : Dt) (a1 a2 s1 s2 : Int) : Option (Dt × Int) :=
  ck (0 ≤ s1 ∧ s1 < 200) <| sd d 1605 s1 s2 fun d18 => bd (fX11_write d18 23 a2 0 0 0) fun d19 => ck (0 ≤ a1 ∧ a1 < 200) <| some (d19, (d19 1605 a1))
noncomputable def fX11_arrive (d : Dt) (a1 a2 : Int) : Option (Dt × Int) :=
  lv (d 1545 1) fun x1 => sd d 1545 1 0 fun d2 => (if (fX11_isIssue d2 a1) = 0 then some (d2, (-1)) else b1 (fX11_isMailShut d2) fun x4 => (if x4 = 0 then ck (0 ≤ a1 ∧ a1 < 200) <| (if (d2 1604 a1) = 6 then (if (d2 1605 a1) = 0 then (if (fX11_in a2 0 1) = 0 then some (d2, (-2)) else b1 (fX11_areMarks d2 a1 x1) fun x11 => (if x11 = 0 then some (d2, (-2)) else bd (fX11_keepMarks d2 a1 x1) fun d14 => (if a2 = 1 then fX11_arrive_96 d14 a1 a2 a1 2 else fX11_arrive_96 d14 a1 a2 a1 4))) else some (d2, (-4))) else some (d2, (-4))) else some (d2, (-3))))
noncomputable def fX0_open_104f (v1 : Int) (s : Dt × Int) : Option ((Dt × Int) ⊕ (Dt × Int)) := match s with
  | (d, v2) => (if (d 1 32) ≤ v2 then up (bd (fX0_write d 24 0 0 0 0) fun d10 => some (d10, v1)) else ck (0 ≤ v2 ∧ v2 < 200) <| lv (d 76 v2) fun x13 => ck (x13 ≠ 0) <| (if (d x13 2) = 6 then lv (d 76 v2) fun x18 => ck (x18 ≠ 0) <| (if (d x18 6) = 2 then lv (d 76 v2) fun x23 => ck (x23 ≠ 0) <| bd (fX0_intoBox d x23) fun d26 => lv (w32 (v2 + 1)) fun x28 => some (Sum.inl (d26, x28)) else lv (w32 (v2 + 1)) fun x22 => some (Sum.inl (d, x22))) else lv (w32 (v2 + 1)) fun x17 => some (Sum.inl (d, x17))))
noncomputable def fX0_open_104 (d : Dt) (v1 v2 : Int) : Option (Dt × Int) := loop (fX0_open_104f v1) (d, v2)
noncomputable def fX0_open_86 (d : Dt) (v2 s0 s1 : Int) : Option ((Int × Int) ⊕ (Dt × Int)) :=
  lv (w32 (s0 + s1)) fun x34 => lv (w32 (v2 + 1)) fun x35 => some (Sum.inl (x34, x35))
noncomputable def fX0_open_45f (d : Dt) (s : Int × Int) : Option ((Int × Int) ⊕ (Dt × Int)) := match s with
  | (v1, v2) => (if (d 1 32) ≤ v2 then up ((if 2 ≤ v1 then fX0_open_104 d v1 0 else some (d, (-4)))) else ck (0 ≤ v2 ∧ v2 < 200) <| lv (d 76 v2) fun x30 => ck (x30 ≠ 0) <| (if (d x30 2) = 6 then lv (d 76 v2) fun x36 => ck (x36 ≠ 0) <| (if (d x36 6) = 2 then fX0_open_86 d v2 v1 1 else fX0_open_86 d v2 v1 0) else fX0_open_86 d v2 v1 0))
noncomputable def fX0_open_45 (d : Dt) (v1 v2 : Int) : Option (Dt × Int) := loop (fX0_open_45f d) (v1, v2)
noncomputable def fX0_open (d : Dt) : Option (Dt × Int) :=
  (if (d 1 9) = 0 then some (d, (-1)) else lv (d 1 7) fun x2 => ck (x2 ≠ 0) <| (if (d 1 2) < (d (x2 + 1) 3) then some (d, (-3)) else (if (d 1421 4) = 0 then fX0_open_45 d 0 0 else some (d, (-3)))))
noncomputable def fX11_open_91f (v1 : Int) (s : Dt × Int) : Option ((Dt × Int) ⊕ (Dt × Int)) := match s with
  | (d, v2) => (if (d 1545 82) ≤ v2 then up (bd (fX11_write d 24 0 0 0 0) fun d9 => some (d9, v1)) else ck (0 ≤ v2 ∧ v2 < 200) <| (if (d 1604 v2) = 6 then (if (d 1605 v2) = 2 then bd (fX11_intoBox d v2 6) fun d16 => lv (w32 (v2 + 1)) fun x18 => some (Sum.inl (d16, x18)) else lv (w32 (v2 + 1)) fun x15 => some (Sum.inl (d, x15))) else lv (w32 (v2 + 1)) fun x13 => some (Sum.inl (d, x13))))
noncomputable def fX11_open_91 (d : Dt) (v1 v2 : Int) : Option (Dt × Int) := loop (fX11_open_91f v1) (d, v2)
noncomputable def fX11_open_73 (d : Dt) (v2 s0 s1 : Int) : Option ((Int × Int) ⊕ (Dt × Int)) :=
  lv (w32 (s0 + s1)) fun x21 => lv (w32 (v2 + 1)) fun x22 => some (Sum.inl (x21, x22))
noncomputable def fX11_open_38f (d : Dt) (s : Int × Int) : Option ((Int × Int) ⊕ (Dt × Int)) := match s with
  | (v1, v2) => (if (d 1545 82) ≤ v2 then up ((if 2 ≤ v1 then fX11_open_91 d v1 0 else some (d, (-4)))) else ck (0 ≤ v2 ∧ v2 < 200) <| (if (d 1604 v2) = 6 then (if (d 1605 v2) = 2 then fX11_open_73 d v2 v1 1 else fX11_open_73 d v2 v1 0) else fX11_open_73 d v2 v1 0))
noncomputable def fX11_open_38 (d : Dt) (v1 v2 : Int) : Option (Dt × Int) := loop (fX11_open_38f d) (v1, v2)
noncomputable def fX11_open (d : Dt) : Option (Dt × Int) :=
  (if (d 1545 45) = 0 then some (d, (-1)) else b1 (fX11_lawIs d 3) fun x2 => (if (d 1545 2) < x2 then some (d, (-3)) else (if (d 1615 6) = 0 then fX11_open_38 d 0 0 else some (d, (-3)))))
noncomputable def fX0_isBox (d : Dt) (a1 : Int) : Option Int :=
  (if (fX0_isStation d a1) = 0 then (if a1 = 6 then (if (d 1 9) = 0 then some 0 else lv (d 1 7) fun x4 => ck (x4 ≠ 0) <| (if (d x4 2) = 0 then some 0 else some 1)) else some 0) else some 1)
noncomputable def fX10_close_7f (o : Int) (s : Dt × Int) : Option ((Dt × Int) ⊕ Dt) := match s with
  | (d, v1) => (if (d o 3) ≤ v1 then up (some d) else ck (0 ≤ v1 ∧ v1 < 60) <| cd d ((o + 3) + v1) 0 ((o + 64) + v1) 0 54 fun d4 => lv (w32 (v1 + 1)) fun x5 => some (Sum.inl (d4, x5)))
noncomputable def fX10_close_7 (d : Dt) (o v1 : Int) : Option Dt := loop (fX10_close_7f o) (d, v1)
noncomputable def fX10_close (d : Dt) (o : Int) : Option Dt :=
  sd d o 4 1 fun d1 => fX10_close_7 d1 o 0
noncomputable def fX0_close_63f (a1 : Int) (s : Dt × Int × Int) : Option ((Dt × Int × Int) ⊕ (Dt × Int)) := match s with
  | (d, v2, v3) => (if (d 1 32) ≤ v3 then up (ck (0 ≤ a1 ∧ a1 < 7) <| bd (fX10_close d (677 + 124 * a1)) fun d13 => bd (fX0_write d13 25 a1 0 0 0) fun d15 => some (d15, v2)) else ck (0 ≤ v3 ∧ v3 < 200) <| lv (d 76 v3) fun x18 => ck (x18 ≠ 0) <| (if (d x18 2) = a1 then (if (fX15_lives d x18) = 0 then lv (w32 (v3 + 1)) fun x24 => some (Sum.inl (d, v2, x24)) else (if (d x18 6) = 3 then lv (w32 (v3 + 1)) fun x26 => some (Sum.inl (d, v2, x26)) else sd d x18 6 4 fun d27 => lv (w32 (v2 + 1)) fun x28 => lv (w32 (v3 + 1)) fun x29 => some (Sum.inl (d27, x28, x29)))) else lv (w32 (v3 + 1)) fun x22 => some (Sum.inl (d, v2, x22))))
noncomputable def fX0_close_63 (d : Dt) (a1 v2 v3 : Int) : Option (Dt × Int) := loop (fX0_close_63f a1) (d, v2, v3)
noncomputable def fX0_close_44 (d : Dt) (a1 : Int) : Option (Dt × Int) :=
  ck (0 ≤ a1 ∧ a1 < 7) <| (if (d (677 + 124 * a1) 4) = 0 then fX0_close_63 d a1 0 0 else some (d, (-4)))
noncomputable def fX0_close (d : Dt) (a1 : Int) : Option (Dt × Int) :=
  b1 (fX0_isBox d a1) fun x1 => (if x1 = 0 then some (d, (-1)) else lv (d 1 7) fun x4 => ck (x4 ≠ 0) <| (if (d 1 2) < (d (x4 + 1) 3) then some (d, (-3)) else (if a1 = 6 then fX0_close_44 d a1 else ck (0 ≤ a1 ∧ a1 < 6) <| (if (d 68 a1) = 0 then fX0_close_44 d a1 else some (d, (-3))))))
noncomputable def fX11_isBox (d : Dt) (a1 : Int) : Option Int :=
  (if (fX11_isStation d a1) = 0 then (if (d 1545 45) = 0 then some 0 else (if a1 = 6 then b1 (fX11_lawIs d 8) fun x4 => (if x4 = 1 then some 1 else some 0) else some 0)) else some 1)
noncomputable def fX11_close_63f (a1 : Int) (s : Dt × Int × Int) : Option ((Dt × Int × Int) ⊕ (Dt × Int)) := match s with
  | (d, v2, v3) => (if (d 1545 82) ≤ v3 then up (bd (fX11_write d 25 a1 0 0 0) fun d12 => some (d12, v2)) else ck (0 ≤ v3 ∧ v3 < 200) <| (if (d 1604 v3) = a1 then b1 (fX11_lives d v3) fun x17 => (if x17 = 0 then lv (w32 (v3 + 1)) fun x20 => some (Sum.inl (d, v2, x20)) else (if (d 1605 v3) = 3 then lv (w32 (v3 + 1)) fun x22 => some (Sum.inl (d, v2, x22)) else sd d 1605 v3 4 fun d23 => lv (w32 (v2 + 1)) fun x24 => lv (w32 (v3 + 1)) fun x25 => some (Sum.inl (d23, x24, x25)))) else lv (w32 (v3 + 1)) fun x16 => some (Sum.inl (d, v2, x16))))
noncomputable def fX11_close_63 (d : Dt) (a1 v2 v3 : Int) : Option (Dt × Int) := loop (fX11_close_63f a1) (d, v2, v3)
noncomputable def fX11_close_40 (d : Dt) (a1 : Int) : Option (Dt × Int) :=
  ck (0 ≤ a1 ∧ a1 < 7) <| (if (d 1615 a1) = 0 then sd d 1615 a1 (1 % 2) fun d10 => fX11_close_63 d10 a1 0 0 else some (d, (-4)))
noncomputable def fX11_close (d : Dt) (a1 : Int) : Option (Dt × Int) :=
  b1 (fX11_isBox d a1) fun x1 => (if x1 = 0 then some (d, (-1)) else b1 (fX11_lawIs d 3) fun x4 => (if (d 1545 2) < x4 then some (d, (-3)) else (if 6 ≤ a1 then fX11_close_40 d a1 else ck (0 ≤ a1 ∧ a1 < 6) <| (if (d 1602 a1) = 0 then fX11_close_40 d a1 else some (d, (-3))))))
noncomputable def fX0_issue (d : Dt) (a1 a2 : Int) : Option Int :=
  (if (fX0_isIssue d a1) = 0 then some (-1) else ck (0 ≤ a1 ∧ a1 < 200) <| lv (d 76 a1) fun x3 => ck (x3 ≠ 0) <| (if a2 = 0 then some (d x3 1) else (if a2 = 1 then some (d x3 2) else (if a2 = 2 then some (d x3 6) else (if a2 = 3 then some (d x3 3) else (if a2 = 4 then (if (d x3 5) = 0 then some 0 else some 1) else (if a2 = 5 then some (d x3 4) else some (-2))))))))
noncomputable def fX11_issue (d : Dt) (a1 a2 : Int) : Option Int :=
  (if (fX11_isIssue d a1) = 0 then some (-1) else (if a2 = 0 then ck (0 ≤ a1 ∧ a1 < 200) <| some (d 1603 a1) else (if a2 = 1 then ck (0 ≤ a1 ∧ a1 < 200) <| some (d 1604 a1) else (if a2 = 2 then ck (0 ≤ a1 ∧ a1 < 200) <| some (d 1605 a1) else (if a2 = 3 then ck (0 ≤ a1 ∧ a1 < 200) <| some (d 1606 a1) else (if a2 = 4 then ck (0 ≤ a1 ∧ a1 < 200) <| (if (d 1607 a1) = 0 then some 0 else some 1) else (if a2 = 5 then ck (0 ≤ a1 ∧ a1 < 200) <| some (d 1608 a1) else some (-2))))))))
noncomputable def fX0_knows (d : Dt) (a1 a2 : Int) : Option Int :=
  (if (fX0_isStation d a1) = 0 then some (-1) else (if (fX0_isIssue d a2) = 0 then some (-1) else b1 (fX0_knownTo d a1 a2) fun x3 => some x3))
noncomputable def fX11_knows (d : Dt) (a1 a2 : Int) : Option Int :=
  (if (fX11_isStation d a1) = 0 then some (-1) else (if (fX11_isIssue d a2) = 0 then some (-1) else b1 (fX11_known d a1 a2) fun x3 => some x3))
noncomputable def fX0_box (d : Dt) (a1 a2 : Int) : Option Int :=
  b1 (fX0_isBox d a1) fun x1 => (if x1 = 0 then some (-1) else (if a2 = 0 then ck (0 ≤ a1 ∧ a1 < 7) <| some (d (677 + 124 * a1) 3) else (if a2 = 1 then ck (0 ≤ a1 ∧ a1 < 7) <| (if (d (677 + 124 * a1) 4) = 0 then some 0 else some 1) else (if a2 = 2 then ck (0 ≤ a1 ∧ a1 < 7) <| (if (d (677 + 124 * a1) 5) = 0 then some 0 else some 1) else (if a2 = 3 then (if a1 = 6 then some 0 else ck (0 ≤ a1 ∧ a1 < 6) <| (if (d 68 a1) = 0 then some 0 else some 1)) else some (-2))))))
noncomputable def fX11_box (d : Dt) (a1 a2 : Int) : Option Int :=
  b1 (fX11_isBox d a1) fun x1 => (if x1 = 0 then some (-1) else (if a2 = 0 then ck (0 ≤ a1 ∧ a1 < 7) <| some (d 1613 a1) else (if a2 = 1 then ck (0 ≤ a1 ∧ a1 < 7) <| (if (d 1615 a1) = 0 then some 0 else some 1) else (if a2 = 2 then ck (0 ≤ a1 ∧ a1 < 7) <| (if (d 1616 a1) = 0 then some 0 else some 1) else (if a2 = 3 then (if 6 ≤ a1 then some 0 else ck (0 ≤ a1 ∧ a1 < 6) <| (if (d 1602 a1) = 0 then some 0 else some 1)) else some (-2))))))
noncomputable def fX0_isField (d : Dt) (a1 a2 a3 : Int) : Option Int :=
  b1 (fX0_isBox d a1) fun x1 => (if x1 = 0 then some 0 else ck (0 ≤ a1 ∧ a1 < 7) <| (if (fX0_within a2 0 (w32 ((d (677 + 124 * a1) 3) - 1))) = 0 then some 0 else ck (0 ≤ a2 ∧ a2 < 60) <| b1 (fX0_fieldsOf d (d ((677 + 124 * a1) + 1) a2)) fun x7 => (if (fX0_within a3 0 (w32 (x7 - 1))) = 0 then some 0 else some 1)))
noncomputable def fX0_paper_56 (d : Dt) (a1 a2 a3 v4 : Int) : Option Int :=
  ck (0 ≤ a1 ∧ a1 < 7) <| (if (d (677 + 124 * a1) 4) = 0 then some (-3) else (if v4 = 0 then ck (0 ≤ a2 ∧ a2 < 60) <| ck (0 ≤ a3 ∧ a3 < 54) <| some (d (((677 + 124 * a1) + 3) + a2) a3) else ck (0 ≤ a2 ∧ a2 < 60) <| some (d ((677 + 124 * a1) + 1) a2)))
noncomputable def fX0_paper_37 (d : Dt) (a1 a2 a3 s0 : Int) : Option Int :=
  (if s0 = 0 then b1 (fX0_isField d a1 a2 a3) fun x9 => (if x9 = 0 then some (-1) else fX0_paper_56 d a1 a2 a3 s0) else fX0_paper_56 d a1 a2 a3 s0)
noncomputable def fX0_paper (d : Dt) (a1 a2 a3 : Int) : Option Int :=
  (if a3 = (-1) then b1 (fX0_isBox d a1) fun x12 => (if x12 = 0 then fX0_paper_37 d a1 a2 a3 0 else ck (0 ≤ a1 ∧ a1 < 7) <| (if (fX0_within a2 0 (w32 ((d (677 + 124 * a1) 3) - 1))) = 0 then fX0_paper_37 d a1 a2 a3 0 else fX0_paper_37 d a1 a2 a3 1)) else fX0_paper_37 d a1 a2 a3 0)
noncomputable def fX11_isPaper (d : Dt) (a1 a2 a3 : Int) : Option Int :=
  b1 (fX11_isBox d a1) fun x1 => (if x1 = 0 then some 0 else ck (0 ≤ a1 ∧ a1 < 7) <| (if (fX11_in a2 0 (w32 ((d 1613 a1) - 1))) = 0 then some 0 else lv (w32 ((w32 (200 * a1)) + a2)) fun x6 => ck (0 ≤ x6 ∧ x6 < 1400) <| lv (d 1614 x6) fun x8 => ck (0 ≤ x8 ∧ x8 < 200) <| b1 (fX11_marksOf d (d 1608 x8)) fun x10 => (if (fX11_in a3 0 (w32 (x10 - 1))) = 0 then some 0 else some 1)))
noncomputable def fX11_paper_43 (d : Dt) (a1 a2 a3 : Int) : Option Int :=
  ck (0 ≤ a1 ∧ a1 < 7) <| (if (d 1615 a1) = 0 then some (-3) else lv (w32 ((w32 (200 * a1)) + a2)) fun x9 => ck (0 ≤ x9 ∧ x9 < 1400) <| lv (d 1614 x9) fun x11 => (if 0 ≤ a3 then lv (w32 ((w32 (54 * x11)) + a3)) fun x13 => ck (0 ≤ x13 ∧ x13 < 10800) <| some (d 1610 x13) else ck (0 ≤ x11 ∧ x11 < 200) <| some (d 1608 x11)))
noncomputable def fX11_paper (d : Dt) (a1 a2 a3 : Int) : Option Int :=
  b1 (fX11_isBox d a1) fun x1 => (if x1 = 0 then some (-1) else ck (0 ≤ a1 ∧ a1 < 7) <| (if (fX11_in a2 0 (w32 ((d 1613 a1) - 1))) = 0 then some (-1) else (if a3 = (-1) then fX11_paper_43 d a1 a2 a3 else b1 (fX11_isPaper d a1 a2 a3) fun x16 => (if x16 = 0 then some (-1) else fX11_paper_43 d a1 a2 a3))))
noncomputable def fX0_record (d : Dt) (a1 a2 a3 : Int) : Option Int :=
  b1 (fX0_isField d a1 a2 a3) fun x1 => (if x1 = 0 then some (-1) else ck (0 ≤ a1 ∧ a1 < 7) <| (if (d (677 + 124 * a1) 4) = 0 then some (-3) else ck (0 ≤ a2 ∧ a2 < 60) <| ck (0 ≤ a3 ∧ a3 < 54) <| some (d (((677 + 124 * a1) + 64) + a2) a3)))
noncomputable def fX11_record (d : Dt) (a1 a2 a3 : Int) : Option Int :=
  b1 (fX11_isPaper d a1 a2 a3) fun x1 => (if x1 = 0 then some (-1) else ck (0 ≤ a1 ∧ a1 < 7) <| (if (d 1615 a1) = 0 then some (-3) else lv (w32 ((w32 (200 * a1)) + a2)) fun x6 => ck (0 ≤ x6 ∧ x6 < 1400) <| lv (w32 ((w32 (54 * (d 1614 x6))) + a3)) fun x8 => ck (0 ≤ x8 ∧ x8 < 10800) <| some (d 1611 x8)))
noncomputable def fX0_misread (d : Dt) (a1 a2 a3 a4 : Int) : Option (Dt × Int) :=
  b1 (fX0_isField d a1 a2 a3) fun x1 => (if x1 = 0 then some (d, (-1)) else ck (0 ≤ a1 ∧ a1 < 7) <| (if (d (677 + 124 * a1) 4) = 0 then some (d, (-3)) else (if (fX0_within a4 0 9) = 0 then some (d, (-2)) else ck (0 ≤ a2 ∧ a2 < 60) <| ck (0 ≤ a3 ∧ a3 < 54) <| lv (d (((677 + 124 * a1) + 64) + a2) a3) fun x9 => sd d (((677 + 124 * a1) + 64) + a2) a3 (w8 (w8 a4)) fun d10 => some (d10, x9))))
noncomputable def fX11_misread (d : Dt) (a1 a2 a3 a4 : Int) : Option (Dt × Int) :=
  b1 (fX11_isPaper d a1 a2 a3) fun x1 => (if x1 = 0 then some (d, (-1)) else ck (0 ≤ a1 ∧ a1 < 7) <| (if (d 1615 a1) = 0 then some (d, (-3)) else (if (fX11_in a4 0 9) = 0 then some (d, (-2)) else lv (w32 ((w32 (200 * a1)) + a2)) fun x7 => ck (0 ≤ x7 ∧ x7 < 1400) <| lv (w32 ((w32 (54 * (d 1614 x7))) + a3)) fun x9 => ck (0 ≤ x9 ∧ x9 < 10800) <| lv (d 1611 x9) fun x11 => sd d 1611 x9 (w8 (w8 a4)) fun d12 => some (d12, x11))))
noncomputable def fX0_strike_43 (d : Dt) (a1 a2 a3 s0 s1 s2 : Int) : Option (Dt × Int) :=
  ck (0 ≤ s1 ∧ s1 < 9) <| sd d s0 s1 (s2 % 2) fun d8 => bd (fX0_write d8 26 a1 a2 a3 0) fun d9 => ck (0 ≤ a1 ∧ a1 < 6) <| b1 (fX9_struck d9 (629 + 8 * a1)) fun x12 => some (d9, x12)
noncomputable def fX0_strike (d : Dt) (a1 a2 a3 : Int) : Option (Dt × Int) :=
  b1 (fX0_isCandidate d a1 a2) fun x1 => (if x1 = 0 then some (d, (-1)) else (if (fX0_within a3 0 1) = 0 then some (d, (-2)) else ck (0 ≤ a1 ∧ a1 < 6) <| (if a3 = 1 then fX0_strike_43 d a1 a2 a3 ((629 + 8 * a1) + 5) a2 1 else fX0_strike_43 d a1 a2 a3 ((629 + 8 * a1) + 5) a2 0)))
noncomputable def fX11_strike_44 (d : Dt) (a1 a2 a3 s1 s2 : Int) : Option (Dt × Int) :=
  ck (0 ≤ s1 ∧ s1 < 54) <| sd d 1591 s1 (s2 % 2) fun d7 => bd (fX11_write d7 26 a1 a2 a3 0) fun d8 => b1 (fX11_struckOf d8 a1) fun x10 => some (d8, x10)
noncomputable def fX11_strike (d : Dt) (a1 a2 a3 : Int) : Option (Dt × Int) :=
  b1 (fX11_isCandidate d a1 a2) fun x1 => (if x1 = 0 then some (d, (-1)) else (if (fX11_in a3 0 1) = 0 then some (d, (-2)) else (if a3 = 1 then fX11_strike_44 d a1 a2 a3 (w32 ((w32 (9 * a1)) + a2)) 1 else fX11_strike_44 d a1 a2 a3 (w32 ((w32 (9 * a1)) + a2)) 0)))
noncomputable def fX0_voidBox_91 (d : Dt) (a1 a2 v4 s0 s1 : Int) : Option ((Int × Int) ⊕ (Dt × Int)) :=
  lv (w32 (s0 + s1)) fun x15 => lv (w32 (v4 + 1)) fun x16 => some (Sum.inl (x15, x16))
noncomputable def fX0_voidBox_56f (d : Dt) (a1 a2 : Int) (s : Int × Int) : Option ((Int × Int) ⊕ (Dt × Int)) := match s with
  | (v3, v4) => (if 6 < v4 then up (some (d, v3)) else b1 (fX0_isBox d v4) fun x12 => (if x12 = 0 then fX0_voidBox_91 d a1 a2 v4 v3 0 else ck (0 ≤ v4 ∧ v4 < 7) <| (if (d (677 + 124 * v4) 5) = 0 then fX0_voidBox_91 d a1 a2 v4 v3 0 else fX0_voidBox_91 d a1 a2 v4 v3 1)))
noncomputable def fX0_voidBox_56 (d : Dt) (a1 a2 v3 v4 : Int) : Option (Dt × Int) := loop (fX0_voidBox_56f d a1 a2) (v3, v4)
noncomputable def fX0_voidBox_38 (d : Dt) (a1 a2 s0 s1 : Int) : Option (Dt × Int) :=
  ck (s1 = 0 ∨ s1 = 1) <| sd d s0 5 s1 fun d8 => bd (fX0_write d8 27 a1 a2 0 0) fun d9 => fX0_voidBox_56 d9 a1 a2 0 0
noncomputable def fX0_voidBox (d : Dt) (a1 a2 : Int) : Option (Dt × Int) :=
  b1 (fX0_isBox d a1) fun x1 => (if x1 = 0 then some (d, (-1)) else (if (fX0_within a2 0 1) = 0 then some (d, (-2)) else ck (0 ≤ a1 ∧ a1 < 7) <| (if a2 = 1 then fX0_voidBox_38 d a1 a2 (677 + 124 * a1) 1 else fX0_voidBox_38 d a1 a2 (677 + 124 * a1) 0)))
noncomputable def fX11_voidBox_77 (d : Dt) (a1 a2 v4 s0 s1 : Int) : Option ((Int × Int) ⊕ (Dt × Int)) :=
  lv (w32 (s0 + s1)) fun x13 => lv (w32 (v4 + 1)) fun x14 => some (Sum.inl (x13, x14))
noncomputable def fX11_voidBox_54f (d : Dt) (a1 a2 : Int) (s : Int × Int) : Option ((Int × Int) ⊕ (Dt × Int)) := match s with
  | (v3, v4) => (if 7 ≤ v4 then up (some (d, v3)) else ck (0 ≤ v4 ∧ v4 < 7) <| (if (d 1616 v4) = 0 then fX11_voidBox_77 d a1 a2 v4 v3 0 else fX11_voidBox_77 d a1 a2 v4 v3 1))
noncomputable def fX11_voidBox_54 (d : Dt) (a1 a2 v3 v4 : Int) : Option (Dt × Int) := loop (fX11_voidBox_54f d a1 a2) (v3, v4)
noncomputable def fX11_voidBox_38 (d : Dt) (a1 a2 s1 s2 : Int) : Option (Dt × Int) :=
  ck (0 ≤ s1 ∧ s1 < 7) <| sd d 1616 s1 (s2 % 2) fun d7 => bd (fX11_write d7 27 a1 a2 0 0) fun d8 => fX11_voidBox_54 d8 a1 a2 0 0
noncomputable def fX11_voidBox (d : Dt) (a1 a2 : Int) : Option (Dt × Int) :=
  b1 (fX11_isBox d a1) fun x1 => (if x1 = 0 then some (d, (-1)) else (if (fX11_in a2 0 1) = 0 then some (d, (-2)) else (if a2 = 1 then fX11_voidBox_38 d a1 a2 a1 1 else fX11_voidBox_38 d a1 a2 a1 0)))
noncomputable def fX0_isReady_39 (d : Dt) (v2 s0 s1 : Int) : Option ((Int × Int) ⊕ Int) :=
  lv (bAnd s0 s1) fun x6 => lv (w32 (v2 + 1)) fun x7 => some (Sum.inl (x6, x7))
noncomputable def fX0_isReady_7f (d : Dt) (s : Int × Int) : Option ((Int × Int) ⊕ Int) := match s with
  | (v1, v2) => (if 6 < v2 then up ((ck (v1 = 0 ∨ v1 = 1) <| some v1)) else b1 (fX0_isBox d v2) fun x3 => (if x3 = 0 then fX0_isReady_39 d v2 v1 1 else ck (0 ≤ v2 ∧ v2 < 7) <| (if (d (677 + 124 * v2) 4) = 0 then fX0_isReady_39 d v2 v1 0 else fX0_isReady_39 d v2 v1 1)))
noncomputable def fX0_isReady_7 (d : Dt) (v1 v2 : Int) : Option Int := loop (fX0_isReady_7f d) (v1, v2)
noncomputable def fX0_isReady (d : Dt) : Option Int :=
  lv (d 1 17) fun x1 => fX0_isReady_7 d x1 0
noncomputable def fX8_beginFirsts (d : Dt) (o : Int) : Option Dt :=
  bd (fJ4_fill_2 d (o + 239) 8 0) fun d1 => bd (fJ4_fill d1 (o + 240) 60 0) fun d3 => sd d3 o 51 0 fun d5 => some d5
noncomputable def fX8_begin_82 (d : Dt) (o a1 a2 a3 v4 s1 s2 : Int) : Option ((Dt × Int) ⊕ Dt) :=
  sd d o 5 (w32 (s1 + s2)) fun d19 => ck (0 ≤ v4 ∧ v4 < 9) <| sd d19 (o + 171) v4 (0 % 2) fun d21 => sd d21 (o + 172) v4 (0 % 2) fun d22 => lv (w32 (v4 + 1)) fun x23 => some (Sum.inl (d22, x23))
noncomputable def fX8_begin_61 (d : Dt) (o a1 a2 a3 v4 s1 s2 : Int) : Option ((Dt × Int) ⊕ Dt) :=
  ck (0 ≤ s1 ∧ s1 < 9) <| sd d (o + 1) s1 (s2 % 2) fun d16 => ck (0 ≤ v4 ∧ v4 < 9) <| (if (d16 (o + 1) v4) = 0 then fX8_begin_82 d16 o a1 a2 a3 v4 (d16 o 5) 0 else fX8_begin_82 d16 o a1 a2 a3 v4 (d16 o 5) 1)
noncomputable def fX8_begin_31f (o a1 a2 a3 : Int) (s : Dt × Int) : Option ((Dt × Int) ⊕ Dt) := match s with
  | (d, v4) => (if (d o 3) ≤ v4 then up (sd d o 8 0 fun d7 => sd d7 o 9 0 fun d8 => sd d8 o 10 0 fun d9 => sd d9 o 17 0 fun d10 => sd d10 o 19 0 fun d11 => sd d11 o 22 0 fun d12 => some d12) else ck (0 ≤ v4 ∧ v4 < 9) <| (if (d (a2 + 5) v4) = 0 then fX8_begin_61 d o a1 a2 a3 v4 v4 1 else fX8_begin_61 d o a1 a2 a3 v4 v4 0))
noncomputable def fX8_begin_31 (d : Dt) (o a1 a2 a3 v4 : Int) : Option Dt := loop (fX8_begin_31f o a1 a2 a3) (d, v4)
noncomputable def fX8_begin (d : Dt) (o a1 a2 a3 : Int) : Option Dt :=
  sd d o 0 a1 fun d1 => sd d1 o 1 a2 fun d2 => sd d2 o 2 a3 fun d3 => sd d3 o 3 (d3 a2 6) fun d4 => sd d4 o 5 0 fun d5 => fX8_begin_31 d5 o a1 a2 a3 0
noncomputable def fX0_fieldOf (d : Dt) (a1 a2 : Int) : Option Int :=
  b1 (fX0_fieldsOf d (bAnd a2 (w32 ((bShl 1 a1) - 1)))) fun x1 => some x1
noncomputable def fX8_rank_71 (d : Dt) (o a1 v2 v3 v4 v5 : Int) : Option ((Dt × Int × Int × Int) ⊕ (Dt × Int)) :=
  (if v3 = 0 then lv (w32 (v4 + 1)) fun x5 => some (Sum.inl (d, v2, v3, x5)) else (if v5 = (-1) then lv (w32 (v4 + 1)) fun x7 => some (Sum.inl (d, v2, v3, x7)) else ck (0 ≤ v2 ∧ v2 < 9) <| sd d a1 v2 v5 fun d9 => lv (w32 (v2 + 1)) fun x10 => lv (w32 (v4 + 1)) fun x11 => some (Sum.inl (d9, x10, v3, x11))))
noncomputable def fX8_rank_24f (d : Dt) (o a1 v2 v4 : Int) (s : Int × Int × Int) : Option ((Int × Int × Int) ⊕ ((Dt × Int × Int × Int) ⊕ (Dt × Int))) := match s with
  | (v3, v5, v6) => (if (d o 3) ≤ v6 then up (fX8_rank_71 d o a1 v2 v3 v4 v5) else (if v3 = 0 then up (fX8_rank_71 d o a1 v2 v3 v4 v5) else ck (0 ≤ v6 ∧ v6 < 9) <| (if (d (o + 63) v6) = v4 then (if v5 = (-1) then lv (w32 (v6 + 1)) fun x18 => some (Sum.inl (1, v6, x18)) else lv (w32 (v6 + 1)) fun x17 => some (Sum.inl (0, v6, x17))) else lv (w32 (v6 + 1)) fun x15 => some (Sum.inl (v3, v5, x15)))))
noncomputable def fX8_rank_24 (d : Dt) (o a1 v2 v3 v4 v5 v6 : Int) : Option ((Dt × Int × Int × Int) ⊕ (Dt × Int)) := loop (fX8_rank_24f d o a1 v2 v4) (v3, v5, v6)
noncomputable def fX8_rank_7f (o a1 : Int) (s : Dt × Int × Int × Int) : Option ((Dt × Int × Int × Int) ⊕ (Dt × Int)) := match s with
  | (d, v2, v3, v4) => (if 10 ≤ v4 then up (some (d, v2)) else (if v3 = 0 then up (some (d, v2)) else fX8_rank_24 d o a1 v2 v3 v4 (-1) 0))
noncomputable def fX8_rank_7 (d : Dt) (o a1 v2 v3 v4 : Int) : Option (Dt × Int) := loop (fX8_rank_7f o a1) (d, v2, v3, v4)
noncomputable def fX8_rank (d : Dt) (o a1 : Int) : Option (Dt × Int) :=
  fX8_rank_7 d o a1 0 1 1
noncomputable def fX8_listOf_2f (d : Dt) (o a1 : Int) (s : Int) : Option ((Int) ⊕ Int) := (fun v2 => (if a1 ≤ v2 then up (some a1) else ck (0 ≤ v2 ∧ v2 < 9) <| (if (d (o + 1) v2) = 0 then lv (w32 (v2 + 1)) fun x4 => some (Sum.inl x4) else lv (d o 1) fun x5 => ck (x5 ≠ 0) <| (if (d (x5 + 3) v2) = (-1) then lv (w32 (v2 + 1)) fun x9 => some (Sum.inl x9) else lv (d o 1) fun x10 => ck (x10 ≠ 0) <| lv (d o 1) fun x13 => ck (x13 ≠ 0) <| ck (0 ≤ a1 ∧ a1 < 9) <| (if (d (x10 + 3) v2) = (d (x13 + 3) a1) then up (some v2) else lv (w32 (v2 + 1)) fun x18 => some (Sum.inl x18)))))) s
noncomputable def fX8_listOf_2 (d : Dt) (o a1 v2 : Int) : Option Int := loop (fX8_listOf_2f d o a1) v2
noncomputable def fX8_listOf (d : Dt) (o a1 : Int) : Option Int :=
  fX8_listOf_2 d o a1 0
noncomputable def fX8_isOneList_47 (d : Dt) (o v3 s0 s1 : Int) : Option ((Int × Int × Int) ⊕ Int) :=
  lv (bAnd s0 s1) fun x6 => lv (w32 (v3 + 1)) fun x7 => some (Sum.inl (v3, x6, x7))
noncomputable def fX8_isOneList_6f (d : Dt) (o : Int) (s : Int × Int × Int) : Option ((Int × Int × Int) ⊕ Int) := match s with
  | (v1, v2, v3) => (if (d o 3) ≤ v3 then up ((ck (v2 = 0 ∨ v2 = 1) <| some v2)) else ck (0 ≤ v3 ∧ v3 < 9) <| (if (d (o + 63) v3) ≤ 0 then lv (w32 (v3 + 1)) fun x4 => some (Sum.inl (v1, v2, x4)) else (if v1 = (-1) then fX8_isOneList_47 d o v3 v2 1 else b1 (fX8_listOf d o v1) fun x8 => b1 (fX8_listOf d o v3) fun x10 => (if x8 = x10 then fX8_isOneList_47 d o v3 v2 1 else fX8_isOneList_47 d o v3 v2 0))))
noncomputable def fX8_isOneList_6 (d : Dt) (o v1 v2 v3 : Int) : Option Int := loop (fX8_isOneList_6f d o) (v1, v2, v3)
noncomputable def fX8_isOneList (d : Dt) (o : Int) : Option Int :=
  fX8_isOneList_6 d o (-1) 1 0
noncomputable def fX8_isSpoiled_108 (d : Dt) (o a1 : Int) : Option (Dt × Int) :=
  lv (d o 8) fun x16 => ck (0 ≤ x16 ∧ x16 < 60) <| b2 (fX8_rank d o ((o + 65) + x16)) fun d18 x20 => (if x20 = 0 then some (d18, 1) else some (d18, 0))
noncomputable def fX8_isSpoiled (d : Dt) (o a1 : Int) : Option (Dt × Int) :=
  lv (d o 0) fun x1 => ck (x1 ≠ 0) <| lv (d x1 2) fun x4 => (if x4 = 0 then (if a1 ≤ 1 then some (d, 0) else some (d, 1)) else (if x4 = 1 then lv (d o 0) fun x8 => ck (x8 ≠ 0) <| (if a1 ≤ (d x8 1) then some (d, 0) else some (d, 1)) else (if x4 = 2 then some (d, 0) else (if x4 = 3 then some (d, 0) else (if x4 = 4 then some (d, 0) else (if x4 = 5 then fX8_isSpoiled_108 d o a1 else (if x4 = 6 then fX8_isSpoiled_108 d o a1 else (if x4 = 7 then some (d, 0) else (if x4 = 8 then some (d, 0) else (if x4 = 9 then some (d, 0) else (if x4 = 10 then some (d, 0) else (if x4 = 11 then fX8_isSpoiled_108 d o a1 else (if x4 = 12 then fX8_isSpoiled_108 d o a1 else (if x4 = 13 then fX8_isSpoiled_108 d o a1 else (if x4 = 14 then b1 (fX8_isOneList d o) fun x31 => (if x31 = 0 then some (d, 1) else some (d, 0)) else some (d, 0))))))))))))))))
noncomputable def fX8_isLess_2f (d : Dt) (o a1 a2 : Int) (s : Int) : Option ((Int) ⊕ Int) := (fun v3 => (if (d o 3) ≤ v3 then up (some 0) else ck (0 ≤ v3 ∧ v3 < 9) <| (if (d a1 v3) = (d a2 v3) then lv (w32 (v3 + 1)) fun x4 => some (Sum.inl x4) else up ((if (d a2 v3) ≤ (d a1 v3) then some 0 else some 1))))) s
noncomputable def fX8_isLess_2 (d : Dt) (o a1 a2 v3 : Int) : Option Int := loop (fX8_isLess_2f d o a1 a2) v3
noncomputable def fX8_isLess (d : Dt) (o a1 a2 : Int) : Option Int :=
  fX8_isLess_2 d o a1 a2 0
noncomputable def fX8_insert_55 (d : Dt) (o v1 : Int) : Option Dt :=
  ck (0 ≤ v1 ∧ v1 < 60) <| cd d (o + 63) 0 ((o + 3) + v1) 0 9 fun d4 => sd d4 o 8 (w32 ((d4 o 8) + 1)) fun d5 => some d5
noncomputable def fX8_insert_5f (o : Int) (s : Dt × Int) : Option ((Dt × Int) ⊕ Dt) := match s with
  | (d, v1) => (if v1 ≤ 0 then up (fX8_insert_55 d o v1) else lv (w32 (v1 - 1)) fun x6 => ck (0 ≤ x6 ∧ x6 < 60) <| b1 (fX8_isLess d o (o + 63) ((o + 3) + x6)) fun x8 => (if x8 = 0 then up (fX8_insert_55 d o v1) else lv (w32 (v1 - 1)) fun x11 => ck (0 ≤ x11 ∧ x11 < 60) <| ck (0 ≤ v1 ∧ v1 < 60) <| cd d ((o + 3) + x11) 0 ((o + 3) + v1) 0 9 fun d14 => lv (w32 (v1 + (-1))) fun x15 => some (Sum.inl (d14, x15))))
noncomputable def fX8_insert_5 (d : Dt) (o v1 : Int) : Option Dt := loop (fX8_insert_5f o) (d, v1)
noncomputable def fX8_insert (d : Dt) (o : Int) : Option Dt :=
  lv (d o 8) fun x1 => fX8_insert_5 d o x1
noncomputable def fX8_add_57 (d : Dt) (o a1 a2 v4 s0 s1 : Int) : Option ((Dt × Int × Int) ⊕ Dt) :=
  lv (w32 (s0 + s1)) fun x17 => lv (w32 (v4 + 1)) fun x18 => some (Sum.inl (d, x17, x18))
noncomputable def fX8_add_40 (d : Dt) (o a1 a2 v3 v4 s1 s2 : Int) : Option ((Dt × Int × Int) ⊕ Dt) :=
  ck (0 ≤ s1 ∧ s1 < 9) <| sd d (o + 63) s1 (w8 s2) fun d14 => ck (0 ≤ v4 ∧ v4 < 9) <| (if (d14 (o + 63) v4) ≤ 0 then fX8_add_57 d14 o a1 a2 v4 v3 0 else fX8_add_57 d14 o a1 a2 v4 v3 1)
noncomputable def fX8_add_5f (o a1 a2 : Int) (s : Dt × Int × Int) : Option ((Dt × Int × Int) ⊕ Dt) := match s with
  | (d, v3, v4) => (if (d o 3) ≤ v4 then up ((if v3 = 0 then sd d o 9 (w32 ((d o 9) + 1)) fun d10 => some d10 else b2 (fX8_isSpoiled d o v3) fun d3 x5 => (if x5 = 0 then bd (fX8_insert d3 o) fun d7 => some d7 else sd d3 o 10 (w32 ((d3 o 10) + 1)) fun d9 => some d9))) else ck (0 ≤ v4 ∧ v4 < 9) <| (if (d (o + 1) v4) = 0 then fX8_add_40 d o a1 a2 v3 v4 v4 0 else lv (w32 (a2 + v4)) fun x19 => ck (0 ≤ x19 ∧ x19 < 54) <| fX8_add_40 d o a1 a2 v3 v4 v4 (d a1 x19)))
noncomputable def fX8_add_5 (d : Dt) (o a1 a2 v3 v4 : Int) : Option Dt := loop (fX8_add_5f o a1 a2) (d, v3, v4)
noncomputable def fX8_add (d : Dt) (o a1 a2 : Int) : Option Dt :=
  fX8_add_5 d o a1 a2 0 0
noncomputable def fX8_isList_2f (d : Dt) (o a1 : Int) (s : Int) : Option ((Int) ⊕ Int) := (fun v2 => (if (d o 42) ≤ v2 then up (some 0) else ck (0 ≤ v2 ∧ v2 < 9) <| (if (d (o + 232) v2) = a1 then up (some 1) else lv (w32 (v2 + 1)) fun x4 => some (Sum.inl x4)))) s
noncomputable def fX8_isList_2 (d : Dt) (o a1 v2 : Int) : Option Int := loop (fX8_isList_2f d o a1) v2
noncomputable def fX8_isList (d : Dt) (o a1 : Int) : Option Int :=
  fX8_isList_2 d o a1 0
noncomputable def fX8_gatherLists_84 (d : Dt) (o v1 v3 : Int) : Option ((Dt × Int) ⊕ Dt) :=
  ck (0 ≤ v3 ∧ v3 < 9) <| sd d (o + 234) v3 (w32 ((d (o + 234) v3) + 1)) fun d21 => lv (w32 (v1 + 1)) fun x22 => some (Sum.inl (d21, x22))
noncomputable def fX8_gatherLists_23f (o : Int) (s : Dt × Int) : Option ((Dt × Int) ⊕ Dt) := match s with
  | (d, v1) => (if (d o 3) ≤ v1 then up (some d) else lv (d o 1) fun x7 => ck (x7 ≠ 0) <| ck (0 ≤ v1 ∧ v1 < 9) <| lv (d (x7 + 6) v1) fun x11 => ck (0 ≤ x11 ∧ x11 < 9) <| (if (d (o + 1) x11) = 0 then lv (w32 (v1 + 1)) fun x14 => some (Sum.inl (d, x14)) else b1 (fX8_listOf d o x11) fun x15 => b1 (fX8_isList d o x15) fun x17 => (if x17 = 0 then lv (d o 42) fun x23 => ck (0 ≤ x23 ∧ x23 < 9) <| sd d (o + 232) x23 x15 fun d25 => sd d25 o 42 (w32 ((d25 o 42) + 1)) fun d26 => fX8_gatherLists_84 d26 o v1 x15 else fX8_gatherLists_84 d o v1 x15)))
noncomputable def fX8_gatherLists_23 (d : Dt) (o v1 : Int) : Option Dt := loop (fX8_gatherLists_23f o) (d, v1)
noncomputable def fX8_gatherLists (d : Dt) (o : Int) : Option Dt :=
  sd d o 42 0 fun d1 => bd (fJ4_fill_2 d1 (o + 233) 9 0) fun d2 => bd (fJ4_fill_2 d2 (o + 234) 9 0) fun d4 => fX8_gatherLists_23 d4 o 0
noncomputable def fX8_countLists_22f (o v1 : Int) (s : Dt × Int × Int) : Option ((Dt × Int × Int) ⊕ ((Dt × Int) ⊕ Dt)) := match s with
  | (d, v2, v3) => (if (d o 3) ≤ v3 then up (b1 (fX8_listOf d o v2) fun x5 => ck (0 ≤ x5 ∧ x5 < 9) <| sd d (o + 233) x5 (w32 ((d (o + 233) x5) + 1)) fun d8 => lv (w32 (v1 + 1)) fun x9 => some (Sum.inl (d8, x9))) else ck (0 ≤ v1 ∧ v1 < 60) <| ck (0 ≤ v3 ∧ v3 < 9) <| (if (d ((o + 3) + v1) v3) ≤ 0 then lv (w32 (v3 + 1)) fun x13 => some (Sum.inl (d, v2, x13)) else sd d (o + 126) v3 (w64 ((d (o + 126) v3) + 1)) fun d14 => lv (w32 (v3 + 1)) fun x15 => some (Sum.inl (d14, v3, x15))))
noncomputable def fX8_countLists_22 (d : Dt) (o v1 v2 v3 : Int) : Option ((Dt × Int) ⊕ Dt) := loop (fX8_countLists_22f o v1) (d, v2, v3)
noncomputable def fX8_countLists_10f (o : Int) (s : Dt × Int) : Option ((Dt × Int) ⊕ Dt) := match s with
  | (d, v1) => (if (d o 8) ≤ v1 then up (some d) else fX8_countLists_22 d o v1 (-1) 0)
noncomputable def fX8_countLists_10 (d : Dt) (o v1 : Int) : Option Dt := loop (fX8_countLists_10f o) (d, v1)
noncomputable def fX8_countLists (d : Dt) (o : Int) : Option Dt :=
  bd (fJ4_fill_3 d (o + 126) 9 0) fun d1 => fX8_countLists_10 d1 o 0
noncomputable def fX8_tell_39 (d : Dt) (o v1 s0 s1 s2 : Int) : Option ((Dt × Int) ⊕ Dt) :=
  ck (0 ≤ s1 ∧ s1 < 9) <| sd d s0 s1 s2 fun d14 => lv (w32 (v1 + 1)) fun x15 => some (Sum.inl (d14, x15))
noncomputable def fX8_tell_2f (o : Int) (s : Dt × Int) : Option ((Dt × Int) ⊕ Dt) := match s with
  | (d, v1) => (if (d o 3) ≤ v1 then up (lv (d o 17) fun x2 => ck (0 ≤ x2 ∧ x2 < 40) <| sd d (o + 168) x2 0 fun d4 => lv (d4 o 17) fun x5 => ck (0 ≤ x5 ∧ x5 < 40) <| sd d4 (o + 169) x5 (-1) fun d7 => sd d7 o 17 (w32 ((d7 o 17) + 1)) fun d8 => some d8) else lv (d o 17) fun x9 => ck (0 ≤ x9 ∧ x9 < 40) <| ck (0 ≤ v1 ∧ v1 < 9) <| (if (d (o + 1) v1) = 0 then fX8_tell_39 d o v1 ((o + 128) + x9) v1 0 else fX8_tell_39 d o v1 ((o + 128) + x9) v1 (d (o + 126) v1)))
noncomputable def fX8_tell_2 (d : Dt) (o v1 : Int) : Option Dt := loop (fX8_tell_2f o) (d, v1)
noncomputable def fX8_tell (d : Dt) (o : Int) : Option Dt :=
  fX8_tell_2 d o 0
noncomputable def fX8_tellLists_37 (d : Dt) (o v1 s1 s3 : Int) : Option ((Dt × Int) ⊕ Dt) :=
  ck (0 ≤ s3 ∧ s3 < 9) <| ck (0 ≤ s1 ∧ s1 < 9) <| sd d (o + 126) s1 (d (o + 233) s3) fun d8 => lv (w32 (v1 + 1)) fun x9 => some (Sum.inl (d8, x9))
noncomputable def fX8_tellLists_2f (o : Int) (s : Dt × Int) : Option ((Dt × Int) ⊕ Dt) := match s with
  | (d, v1) => (if (d o 3) ≤ v1 then up (bd (fX8_tell d o) fun d2 => some d2) else ck (0 ≤ v1 ∧ v1 < 9) <| (if (d (o + 1) v1) = 0 then fX8_tellLists_37 d o v1 v1 v1 else b1 (fX8_listOf d o v1) fun x10 => fX8_tellLists_37 d o v1 v1 x10))
noncomputable def fX8_tellLists_2 (d : Dt) (o v1 : Int) : Option Dt := loop (fX8_tellLists_2f o) (d, v1)
noncomputable def fX8_tellLists (d : Dt) (o : Int) : Option Dt :=
  fX8_tellLists_2 d o 0
noncomputable def fX8_admit_138 (d : Dt) (o v1 v2 s1 s2 : Int) : Option ((Dt × Int) ⊕ Dt) :=
  sd d o 49 (w32 (s1 + s2)) fun d12 => lv (w32 (v2 + 1)) fun x13 => some (Sum.inl (d12, x13))
noncomputable def fX8_admit_112 (d : Dt) (o v1 v2 v3 s1 s2 s3 : Int) : Option ((Dt × Int) ⊕ Dt) :=
  ck (0 ≤ s1 ∧ s1 < 9) <| sd d (o + 235) s1 ((bOr s2 s3) % 2) fun d9 => ck (0 ≤ v3 ∧ v3 < 9) <| (if (d9 (o + 235) v3) = 0 then fX8_admit_138 d9 o v1 v2 (d9 o 49) 0 else fX8_admit_138 d9 o v1 v2 (d9 o 49) (d9 (o + 233) v3))
noncomputable def fX8_admit_81f (o v1 : Int) (s : Dt × Int) : Option ((Dt × Int) ⊕ Dt) := match s with
  | (d, v2) => (if (d o 42) ≤ v2 then up (some d) else ck (0 ≤ v2 ∧ v2 < 9) <| lv (d (o + 232) v2) fun x5 => ck (0 ≤ x5 ∧ x5 < 9) <| (if v1 = 0 then fX8_admit_112 d o v1 v2 x5 x5 (d (o + 235) x5) 1 else fX8_admit_112 d o v1 v2 x5 x5 (d (o + 235) x5) 0))
noncomputable def fX8_admit_81 (d : Dt) (o v1 v2 : Int) : Option Dt := loop (fX8_admit_81f o v1) (d, v2)
noncomputable def fX8_admit_63 (d : Dt) (o v1 v2 v3 s1 s2 : Int) : Option ((Dt × Int × Int) ⊕ Dt) :=
  ck (0 ≤ s1 ∧ s1 < 9) <| sd d (o + 235) s1 (s2 % 2) fun d25 => ck (0 ≤ v3 ∧ v3 < 9) <| lv (bOr v1 (d25 (o + 235) v3)) fun x27 => lv (w32 (v2 + 1)) fun x28 => some (Sum.inl (d25, x27, x28))
noncomputable def fX8_admit_9f (o : Int) (s : Dt × Int × Int) : Option ((Dt × Int × Int) ⊕ Dt) := match s with
  | (d, v1, v2) => (if (d o 42) ≤ v2 then up (fX8_admit_81 d o v1 0) else ck (0 ≤ v2 ∧ v2 < 9) <| lv (d (o + 232) v2) fun x15 => ck (0 ≤ x15 ∧ x15 < 9) <| lv (d o 0) fun x17 => ck (x17 ≠ 0) <| lv (d o 0) fun x20 => ck (x20 ≠ 0) <| (if (w32 ((d (o + 233) x15) * (d x17 5))) < (w32 ((d x20 4) * (d o 8))) then fX8_admit_63 d o v1 v2 x15 x15 0 else fX8_admit_63 d o v1 v2 x15 x15 1))
noncomputable def fX8_admit_9 (d : Dt) (o v1 v2 : Int) : Option Dt := loop (fX8_admit_9f o) (d, v1, v2)
noncomputable def fX8_admit (d : Dt) (o : Int) : Option Dt :=
  sd d o 49 0 fun d1 => fX8_admit_9 d1 o 0 0
noncomputable def fX8_firstOf (d : Dt) (o a1 : Int) : Option Int :=
  lv (d o 1) fun x1 => ck (x1 ≠ 0) <| ck (0 ≤ a1 ∧ a1 < 9) <| (if (d (x1 + 3) a1) = (-1) then some 0 else lv (d o 1) fun x6 => ck (x6 ≠ 0) <| lv (d (x6 + 3) a1) fun x9 => ck (0 ≤ x9 ∧ x9 < 8) <| some (d (o + 239) x9))
noncomputable def fX8_divisor (d : Dt) (o a1 : Int) : Option Int :=
  lv (d o 0) fun x1 => ck (x1 ≠ 0) <| lv (d x1 3) fun x4 => (if x4 = 0 then some (w32 (a1 + 1)) else (if x4 = 1 then some (w32 ((w32 (2 * a1)) + 1)) else (if x4 = 2 then some (w32 ((w32 (3 * a1)) + 1)) else (if x4 = 3 then some (w32 (a1 + 2)) else (if a1 = 0 then some 14 else some (w32 ((w32 (20 * a1)) + 10)))))))
noncomputable def fX8_byDivisors_150 (d : Dt) (o a1 a2 v4 v5 s0 : Int) : Option ((Dt × Int × Int) ⊕ Dt) :=
  (if s0 = 0 then lv (w32 (v4 + 1)) fun x6 => some (Sum.inl (d, s0, x6)) else ck (0 ≤ v5 ∧ v5 < 9) <| sd d (o + 236) v5 (w32 ((d (o + 236) v5) + 1)) fun d8 => lv (w32 (v4 + 1)) fun x9 => some (Sum.inl (d8, s0, x9)))
noncomputable def fX8_byDivisors_75 (d : Dt) (o a1 a2 v4 v5 v6 v7 s0 : Int) : Option ((Int × Int) ⊕ ((Dt × Int × Int) ⊕ Dt)) :=
  (if s0 = 0 then lv (w32 (v6 + 1)) fun x15 => some (Sum.inl (v5, x15)) else (if v5 = (-1) then lv (w32 (v6 + 1)) fun x17 => some (Sum.inl (v7, x17)) else ck (0 ≤ v7 ∧ v7 < 9) <| ck (0 ≤ v5 ∧ v5 < 9) <| b1 (fX8_divisor d o (d (o + 236) v5)) fun x20 => b1 (fX8_divisor d o (d (o + 236) v7)) fun x22 => (if (w32 ((d (o + 233) v7) * x20)) ≤ (w32 ((d (o + 233) v5) * x22)) then lv (w32 (v6 + 1)) fun x25 => some (Sum.inl (v5, x25)) else lv (w32 (v6 + 1)) fun x26 => some (Sum.inl (v7, x26)))))
noncomputable def fX8_byDivisors_21f (d : Dt) (o a1 a2 v4 : Int) (s : Int × Int) : Option ((Int × Int) ⊕ ((Dt × Int × Int) ⊕ Dt)) := match s with
  | (v5, v6) => (if (d o 42) ≤ v6 then up ((if v5 = (-1) then fX8_byDivisors_150 d o a1 a2 v4 v5 0 else fX8_byDivisors_150 d o a1 a2 v4 v5 1)) else ck (0 ≤ v6 ∧ v6 < 9) <| lv (d (o + 232) v6) fun x11 => ck (0 ≤ x11 ∧ x11 < 9) <| (if (d (o + 235) x11) = 0 then fX8_byDivisors_75 d o a1 a2 v4 v5 v6 x11 0 else (if a2 = 0 then fX8_byDivisors_75 d o a1 a2 v4 v5 v6 x11 1 else (if (d (o + 234) x11) ≤ (d (o + 236) x11) then fX8_byDivisors_75 d o a1 a2 v4 v5 v6 x11 0 else fX8_byDivisors_75 d o a1 a2 v4 v5 v6 x11 1))))
noncomputable def fX8_byDivisors_21 (d : Dt) (o a1 a2 v4 v5 v6 : Int) : Option ((Dt × Int × Int) ⊕ Dt) := loop (fX8_byDivisors_21f d o a1 a2 v4) (v5, v6)
noncomputable def fX8_byDivisors_5f (o a1 a2 : Int) (s : Dt × Int × Int) : Option ((Dt × Int × Int) ⊕ Dt) := match s with
  | (d, v3, v4) => (if a1 ≤ v4 then up (some d) else (if v3 = 0 then up (some d) else fX8_byDivisors_21 d o a1 a2 v4 (-1) 0))
noncomputable def fX8_byDivisors_5 (d : Dt) (o a1 a2 v3 v4 : Int) : Option Dt := loop (fX8_byDivisors_5f o a1 a2) (d, v3, v4)
noncomputable def fX8_byDivisors (d : Dt) (o a1 a2 : Int) : Option Dt :=
  fX8_byDivisors_5 d o a1 a2 1 0
noncomputable def fX8_sortRemainders_81 (d : Dt) (o v1 v2 v3 v4 : Int) : Option ((Dt × Int × Int) ⊕ (Dt × Int)) :=
  ck (0 ≤ v4 ∧ v4 < 9) <| sd d (o + 238) v4 v3 fun d9 => lv (w32 (v1 + 1)) fun x10 => lv (w32 (v2 + 1)) fun x11 => some (Sum.inl (d9, x10, x11))
noncomputable def fX8_sortRemainders_31f (o v1 v2 v3 : Int) (s : Dt × Int) : Option ((Dt × Int) ⊕ ((Dt × Int × Int) ⊕ (Dt × Int))) := match s with
  | (d, v4) => (if v4 ≤ 0 then up (fX8_sortRemainders_81 d o v1 v2 v3 v4) else ck (0 ≤ v3 ∧ v3 < 9) <| lv (w32 (v4 - 1)) fun x13 => ck (0 ≤ x13 ∧ x13 < 9) <| lv (d (o + 238) x13) fun x15 => ck (0 ≤ x15 ∧ x15 < 9) <| (if (d (o + 237) v3) ≤ (d (o + 237) x15) then up (fX8_sortRemainders_81 d o v1 v2 v3 v4) else lv (w32 (v4 - 1)) fun x18 => ck (0 ≤ x18 ∧ x18 < 9) <| ck (0 ≤ v4 ∧ v4 < 9) <| sd d (o + 238) v4 (d (o + 238) x18) fun d21 => lv (w32 (v4 + (-1))) fun x22 => some (Sum.inl (d21, x22))))
noncomputable def fX8_sortRemainders_31 (d : Dt) (o v1 v2 v3 v4 : Int) : Option ((Dt × Int × Int) ⊕ (Dt × Int)) := loop (fX8_sortRemainders_31f o v1 v2 v3) (d, v4)
noncomputable def fX8_sortRemainders_4f (o : Int) (s : Dt × Int × Int) : Option ((Dt × Int × Int) ⊕ (Dt × Int)) := match s with
  | (d, v1, v2) => (if (d o 42) ≤ v2 then up (some (d, v1)) else ck (0 ≤ v2 ∧ v2 < 9) <| lv (d (o + 232) v2) fun x3 => ck (0 ≤ x3 ∧ x3 < 9) <| (if (d (o + 235) x3) = 0 then lv (w32 (v2 + 1)) fun x6 => some (Sum.inl (d, v1, x6)) else fX8_sortRemainders_31 d o v1 v2 x3 v1))
noncomputable def fX8_sortRemainders_4 (d : Dt) (o v1 v2 : Int) : Option (Dt × Int) := loop (fX8_sortRemainders_4f o) (d, v1, v2)
noncomputable def fX8_sortRemainders (d : Dt) (o : Int) : Option (Dt × Int) :=
  fX8_sortRemainders_4 d o 0 0
noncomputable def fX8_takeBack_70 (d : Dt) (o a1 a2 v3 v4 s1 s2 s3 : Int) : Option ((Dt × Int × Int) ⊕ ((Dt × Int) ⊕ Dt)) :=
  ck (0 ≤ s1 ∧ s1 < 9) <| sd d (o + 236) s1 (w32 (s2 - s3)) fun d13 => lv (w32 (v4 + (-1))) fun x14 => some (Sum.inl (d13, v3, x14))
noncomputable def fX8_takeBack_45 (d : Dt) (o a1 a2 v4 v5 s0 s1 : Int) : Option ((Dt × Int × Int) ⊕ ((Dt × Int) ⊕ Dt)) :=
  lv (w32 (s0 - s1)) fun x9 => ck (0 ≤ v5 ∧ v5 < 9) <| (if (d (o + 236) v5) ≤ 0 then fX8_takeBack_70 d o a1 a2 x9 v4 v5 (d (o + 236) v5) 0 else fX8_takeBack_70 d o a1 a2 x9 v4 v5 (d (o + 236) v5) 1)
noncomputable def fX8_takeBack_11f (o a1 a2 : Int) (s : Dt × Int × Int) : Option ((Dt × Int × Int) ⊕ ((Dt × Int) ⊕ Dt)) := match s with
  | (d, v3, v4) => (if v4 < 0 then up (some (Sum.inl (d, v3))) else (if v3 ≤ 0 then up (some (Sum.inl (d, v3))) else ck (0 ≤ v4 ∧ v4 < 9) <| lv (d (o + 238) v4) fun x6 => ck (0 ≤ x6 ∧ x6 < 9) <| (if (d (o + 236) x6) ≤ 0 then fX8_takeBack_45 d o a1 a2 v4 x6 v3 0 else fX8_takeBack_45 d o a1 a2 v4 x6 v3 1)))
noncomputable def fX8_takeBack_11 (d : Dt) (o a1 a2 v3 v4 : Int) : Option ((Dt × Int) ⊕ Dt) := loop (fX8_takeBack_11f o a1 a2) (d, v3, v4)
noncomputable def fX8_takeBack_2f (o a1 a2 : Int) (s : Dt × Int) : Option ((Dt × Int) ⊕ Dt) := match s with
  | (d, v3) => (if v3 ≤ 0 then up (some d) else lv (w32 (a2 - 1)) fun x2 => fX8_takeBack_11 d o a1 a2 v3 x2)
noncomputable def fX8_takeBack_2 (d : Dt) (o a1 a2 v3 : Int) : Option Dt := loop (fX8_takeBack_2f o a1 a2) (d, v3)
noncomputable def fX8_takeBack (d : Dt) (o a1 a2 : Int) : Option Dt :=
  fX8_takeBack_2 d o a1 a2 a1
noncomputable def fX8_addTo_63 (d : Dt) (o a1 a2 a3 v4 v6 v7 : Int) : Option ((Dt × Int × Int × Int) ⊕ ((Dt × Int × Int) ⊕ Dt)) :=
  ck (0 ≤ v7 ∧ v7 < 9) <| sd d (o + 236) v7 (w32 ((d (o + 236) v7) + 1)) fun d9 => lv (w32 (v4 + (-1))) fun x10 => lv (w32 (v6 + 1)) fun x11 => some (Sum.inl (d9, x10, 1, x11))
noncomputable def fX8_addTo_22f (o a1 a2 a3 : Int) (s : Dt × Int × Int × Int) : Option ((Dt × Int × Int × Int) ⊕ ((Dt × Int × Int) ⊕ Dt)) := match s with
  | (d, v4, v5, v6) => (if a2 ≤ v6 then up (some (Sum.inl (d, v4, v5))) else (if v4 ≤ 0 then up (some (Sum.inl (d, v4, v5))) else ck (0 ≤ v6 ∧ v6 < 9) <| lv (d (o + 238) v6) fun x6 => (if a3 = 0 then fX8_addTo_63 d o a1 a2 a3 v4 v6 x6 else ck (0 ≤ x6 ∧ x6 < 9) <| (if (d (o + 234) x6) ≤ (d (o + 236) x6) then lv (w32 (v6 + 1)) fun x14 => some (Sum.inl (d, v4, v5, x14)) else fX8_addTo_63 d o a1 a2 a3 v4 v6 x6))))
noncomputable def fX8_addTo_22 (d : Dt) (o a1 a2 a3 v4 v5 v6 : Int) : Option ((Dt × Int × Int) ⊕ Dt) := loop (fX8_addTo_22f o a1 a2 a3) (d, v4, v5, v6)
noncomputable def fX8_addTo_6f (o a1 a2 a3 : Int) (s : Dt × Int × Int) : Option ((Dt × Int × Int) ⊕ Dt) := match s with
  | (d, v4, v5) => (if v4 ≤ 0 then up (some d) else (if v5 = 0 then up (some d) else fX8_addTo_22 d o a1 a2 a3 v4 0 0))
noncomputable def fX8_addTo_6 (d : Dt) (o a1 a2 a3 v4 v5 : Int) : Option Dt := loop (fX8_addTo_6f o a1 a2 a3) (d, v4, v5)
noncomputable def fX8_addTo (d : Dt) (o a1 a2 a3 : Int) : Option Dt :=
  fX8_addTo_6 d o a1 a2 a3 a1 1
noncomputable def fX8_byQuotas_195 (d : Dt) (o a1 a2 v3 v4 v5 s1 s2 : Int) : Option ((Dt × Int × Int) ⊕ Dt) :=
  ck (0 ≤ s1 ∧ s1 < 9) <| sd d (o + 236) s1 s2 fun d38 => ck (0 ≤ v5 ∧ v5 < 9) <| lv (w32 (v3 + (d38 (o + 236) v5))) fun x40 => lv (w32 (v4 + 1)) fun x41 => some (Sum.inl (d38, x40, x41))
noncomputable def fX8_byQuotas_132 (d : Dt) (o a1 a2 v3 v4 v5 v7 s0 : Int) : Option ((Dt × Int × Int) ⊕ Dt) :=
  ck (s0 ≠ 0) <| ck (0 ≤ v5 ∧ v5 < 9) <| sd d (o + 236) v5 (w32 (Int.tdiv v7 s0)) fun d33 => ck (s0 ≠ 0) <| sd d33 (o + 237) v5 (Int.tmod v7 s0) fun d35 => (if a2 = 0 then fX8_byQuotas_195 d35 o a1 a2 v3 v4 v5 v5 (d35 (o + 236) v5) else fX8_byQuotas_195 d35 o a1 a2 v3 v4 v5 v5 (fJ9_min (d35 (o + 236) v5) (d35 (o + 234) v5)))
noncomputable def fX8_byQuotas_101 (d : Dt) (o a1 a2 v3 v4 v5 s0 : Int) : Option ((Dt × Int × Int) ⊕ Dt) :=
  lv (d o 0) fun x27 => ck (x27 ≠ 0) <| (if (d x27 3) = 6 then lv (w32 (a1 + 1)) fun x42 => ck (x42 ≠ 0) <| fX8_byQuotas_132 d o a1 a2 v3 v4 v5 s0 (w32 ((w32 (Int.tdiv (d o 49) x42)) + 1)) else fX8_byQuotas_132 d o a1 a2 v3 v4 v5 s0 (d o 49))
noncomputable def fX8_byQuotas_65 (d : Dt) (o a1 a2 v3 v4 v5 s0 : Int) : Option ((Dt × Int × Int) ⊕ Dt) :=
  lv (d o 0) fun x22 => ck (x22 ≠ 0) <| (if (d x22 3) = 6 then ck (0 ≤ v5 ∧ v5 < 9) <| fX8_byQuotas_101 d o a1 a2 v3 v4 v5 (d (o + 233) v5) else ck (0 ≤ v5 ∧ v5 < 9) <| fX8_byQuotas_101 d o a1 a2 v3 v4 v5 (w32 ((d (o + 233) v5) * (w32 (a1 + s0)))))
noncomputable def fX8_byQuotas_5f (o a1 a2 : Int) (s : Dt × Int × Int) : Option ((Dt × Int × Int) ⊕ Dt) := match s with
  | (d, v3, v4) => (if (d o 42) ≤ v4 then up (b2 (fX8_sortRemainders d o) fun d2 x4 => bd (fX8_takeBack d2 o (w32 (v3 - a1)) x4) fun d5 => bd (fX8_addTo d5 o (w32 (a1 - v3)) x4 a2) fun d7 => some d7) else ck (0 ≤ v4 ∧ v4 < 9) <| lv (d (o + 232) v4) fun x10 => ck (0 ≤ x10 ∧ x10 < 9) <| (if (d (o + 235) x10) = 0 then lv (w32 (v4 + 1)) fun x13 => some (Sum.inl (d, v3, x13)) else lv (d o 0) fun x14 => ck (x14 ≠ 0) <| (if (d x14 3) = 5 then fX8_byQuotas_65 d o a1 a2 v3 v4 x10 0 else lv (d o 0) fun x18 => ck (x18 ≠ 0) <| (if (d x18 3) = 7 then fX8_byQuotas_65 d o a1 a2 v3 v4 x10 1 else fX8_byQuotas_65 d o a1 a2 v3 v4 x10 2))))
noncomputable def fX8_byQuotas_5 (d : Dt) (o a1 a2 v3 v4 : Int) : Option Dt := loop (fX8_byQuotas_5f o a1 a2) (d, v3, v4)
noncomputable def fX8_byQuotas (d : Dt) (o a1 a2 : Int) : Option Dt :=
  fX8_byQuotas_5 d o a1 a2 0 0
noncomputable def fX8_deal (d : Dt) (o a1 a2 : Int) : Option Dt :=
  bd (fJ4_fill_2 d (o + 236) 9 0) fun d1 => lv (d1 o 0) fun x3 => ck (x3 ≠ 0) <| (if 5 ≤ (d1 x3 3) then bd (fX8_byQuotas d1 o a1 a2) fun d7 => some d7 else bd (fX8_byDivisors d1 o a1 a2) fun d9 => some d9)
noncomputable def fX8_isOver_48 (d : Dt) (o v2 s0 s1 : Int) : Option ((Int × Int) ⊕ Int) :=
  lv (bOr s0 s1) fun x6 => lv (w32 (v2 + 1)) fun x7 => some (Sum.inl (x6, x7))
noncomputable def fX8_isOver_4f (d : Dt) (o : Int) (s : Int × Int) : Option ((Int × Int) ⊕ Int) := match s with
  | (v1, v2) => (if (d o 42) ≤ v2 then up ((ck (v1 = 0 ∨ v1 = 1) <| some v1)) else ck (0 ≤ v2 ∧ v2 < 9) <| lv (d (o + 232) v2) fun x3 => ck (0 ≤ x3 ∧ x3 < 9) <| (if (d (o + 235) x3) = 0 then fX8_isOver_48 d o v2 v1 0 else b1 (fX8_firstOf d o x3) fun x8 => (if x8 ≤ (d (o + 236) x3) then fX8_isOver_48 d o v2 v1 0 else fX8_isOver_48 d o v2 v1 1)))
noncomputable def fX8_isOver_4 (d : Dt) (o v1 v2 : Int) : Option Int := loop (fX8_isOver_4f d o) (v1, v2)
noncomputable def fX8_isOver (d : Dt) (o : Int) : Option Int :=
  fX8_isOver_4 d o 0 0
noncomputable def fX8_level_118f (o : Int) (s : Dt × Int) : Option ((Dt × Int) ⊕ Dt) := match s with
  | (d, v3) => (if (d o 42) ≤ v3 then up (some d) else ck (0 ≤ v3 ∧ v3 < 9) <| lv (d (o + 232) v3) fun x8 => ck (0 ≤ x8 ∧ x8 < 9) <| b1 (fX8_firstOf d o x8) fun x10 => sd d (o + 236) x8 (fJ9_max 0 (w32 ((d (o + 236) x8) - x10))) fun d12 => lv (w32 (v3 + 1)) fun x13 => some (Sum.inl (d12, x13)))
noncomputable def fX8_level_118 (d : Dt) (o v3 : Int) : Option Dt := loop (fX8_level_118f o) (d, v3)
noncomputable def fX8_level_72f (o v1 v2 : Int) (s : Dt) : Option ((Dt) ⊕ Dt) := (fun d => (if v2 ≤ (d o 22) then up (fX8_level_118 d o 0) else b1 (fX8_isOver d o) fun x14 => (if x14 = 0 then up (fX8_level_118 d o 0) else sd d o 22 (w32 ((d o 22) + 1)) fun d17 => bd (fX8_deal d17 o (w32 ((w32 ((d17 o 22) - (d17 o 51))) + v1)) 0) fun d18 => some (Sum.inl d18)))) s
noncomputable def fX8_level_72 (d : Dt) (o v1 v2 : Int) : Option Dt := loop (fX8_level_72f o v1 v2) d
noncomputable def fX8_level_41 (d : Dt) (o v2 s0 s1 : Int) : Option ((Int × Int) ⊕ Dt) :=
  lv (w32 (s0 + s1)) fun x24 => lv (w32 (v2 + 1)) fun x25 => some (Sum.inl (x24, x25))
noncomputable def fX8_level_4f (d : Dt) (o : Int) (s : Int × Int) : Option ((Int × Int) ⊕ Dt) := match s with
  | (v1, v2) => (if (d o 42) ≤ v2 then up (bd (fX8_deal d o (w32 ((w32 ((d o 22) - (d o 51))) + v1)) 0) fun d2 => lv (w32 (2 * (d2 o 22))) fun x4 => fX8_level_72 d2 o v1 x4) else ck (0 ≤ v2 ∧ v2 < 9) <| lv (d (o + 232) v2) fun x21 => ck (0 ≤ x21 ∧ x21 < 9) <| (if (d (o + 235) x21) = 0 then fX8_level_41 d o v2 v1 0 else b1 (fX8_firstOf d o (d (o + 232) v2)) fun x26 => fX8_level_41 d o v2 v1 x26))
noncomputable def fX8_level_4 (d : Dt) (o v1 v2 : Int) : Option Dt := loop (fX8_level_4f d o) (v1, v2)
noncomputable def fX8_level (d : Dt) (o : Int) : Option Dt :=
  fX8_level_4 d o 0 0
noncomputable def fX8_isIn (d : Dt) (o a1 : Int) : Option Int :=
  ck (0 ≤ a1 ∧ a1 < 9) <| (if (d (o + 1) a1) = 0 then some 0 else (if (d (o + 171) a1) = 0 then (if (d (o + 172) a1) = 0 then some 1 else some 0) else some 0))
noncomputable def fX8_nextOf_89 (d : Dt) (o a1 v2 v3 v4 s0 : Int) : Option ((Int × Int) ⊕ Int) :=
  (if s0 = 0 then lv (w32 (v3 + 1)) fun x10 => some (Sum.inl (v2, x10)) else (if v2 = (-1) then lv (w32 (v3 + 1)) fun x12 => some (Sum.inl (v4, x12)) else lv (d o 0) fun x13 => ck (x13 ≠ 0) <| (if (d x13 6) = 0 then lv (w32 (v3 + 1)) fun x17 => some (Sum.inl (v2, x17)) else ck (0 ≤ v4 ∧ v4 < 9) <| ck (0 ≤ v2 ∧ v2 < 9) <| (if (jCmp (d (o + 126) v4) (d (o + 126) v2)) ≤ 0 then lv (w32 (v3 + 1)) fun x21 => some (Sum.inl (v2, x21)) else lv (w32 (v3 + 1)) fun x22 => some (Sum.inl (v4, x22))))))
noncomputable def fX8_nextOf_35 (d : Dt) (o a1 v2 v3 s0 : Int) : Option ((Int × Int) ⊕ Int) :=
  b1 (fX8_isIn d o s0) fun x6 => (if x6 = 0 then fX8_nextOf_89 d o a1 v2 v3 s0 0 else b1 (fX8_listOf d o s0) fun x23 => (if x23 = a1 then lv (d o 0) fun x26 => ck (x26 ≠ 0) <| (if (d x26 7) = 0 then fX8_nextOf_89 d o a1 v2 v3 s0 1 else lv (d o 1) fun x30 => ck (x30 ≠ 0) <| ck (0 ≤ s0 ∧ s0 < 9) <| lv (d (x30 + 2) s0) fun x34 => ck (0 ≤ x34 ∧ x34 < 60) <| (if (d (o + 240) x34) = 0 then fX8_nextOf_89 d o a1 v2 v3 s0 1 else fX8_nextOf_89 d o a1 v2 v3 s0 0)) else fX8_nextOf_89 d o a1 v2 v3 s0 0))
noncomputable def fX8_nextOf_4f (d : Dt) (o a1 : Int) (s : Int × Int) : Option ((Int × Int) ⊕ Int) := match s with
  | (v2, v3) => (if (d o 3) ≤ v3 then up (some v2) else lv (d o 0) fun x2 => ck (x2 ≠ 0) <| (if (d x2 6) = 0 then fX8_nextOf_35 d o a1 v2 v3 v3 else lv (d o 1) fun x37 => ck (x37 ≠ 0) <| ck (0 ≤ v3 ∧ v3 < 9) <| fX8_nextOf_35 d o a1 v2 v3 (d (x37 + 6) v3)))
noncomputable def fX8_nextOf_4 (d : Dt) (o a1 v2 v3 : Int) : Option Int := loop (fX8_nextOf_4f d o a1) (v2, v3)
noncomputable def fX8_nextOf (d : Dt) (o a1 : Int) : Option Int :=
  fX8_nextOf_4 d o a1 (-1) 0
noncomputable def fX8_elect (d : Dt) (o a1 : Int) : Option Dt :=
  lv (d o 19) fun x1 => ck (0 ≤ x1 ∧ x1 < 9) <| sd d (o + 170) x1 a1 fun d3 => sd d3 o 19 (w32 ((d3 o 19) + 1)) fun d4 => ck (0 ≤ a1 ∧ a1 < 9) <| sd d4 (o + 171) a1 (1 % 2) fun d6 => some d6
noncomputable def fX8_fill_109f (o v1 v2 v3 : Int) (s : Dt × Int) : Option ((Dt × Int) ⊕ ((Dt × Int) ⊕ Dt)) := match s with
  | (d, v4) => (if v4 = (-1) then up (ck (0 ≤ v2 ∧ v2 < 9) <| sd d (o + 232) v2 (-1) fun d9 => lv (w32 (v1 + 1)) fun x10 => some (Sum.inl (d9, x10))) else bd (fX8_elect d o v4) fun d11 => ck (0 ≤ v3 ∧ v3 < 9) <| sd d11 (o + 236) v3 (w32 ((d11 (o + 236) v3) - 1)) fun d14 => (if (d14 (o + 236) v3) ≤ 0 then some (Sum.inl (d14, (-1))) else b1 (fX8_nextOf d14 o v3) fun x16 => some (Sum.inl (d14, x16))))
noncomputable def fX8_fill_109 (d : Dt) (o v1 v2 v3 v4 : Int) : Option ((Dt × Int) ⊕ Dt) := loop (fX8_fill_109f o v1 v2 v3) (d, v4)
noncomputable def fX8_fill_41 (d : Dt) (o v1 v2 v3 v4 s0 : Int) : Option ((Int × Int) ⊕ ((Dt × Int) ⊕ Dt)) :=
  (if s0 = 0 then lv (w32 (v3 + 1)) fun x24 => some (Sum.inl (v2, x24)) else (if v2 = (-1) then lv (w32 (v3 + 1)) fun x26 => some (Sum.inl (v3, x26)) else ck (0 ≤ v4 ∧ v4 < 9) <| ck (0 ≤ v2 ∧ v2 < 9) <| lv (d (o + 232) v2) fun x29 => ck (0 ≤ x29 ∧ x29 < 9) <| (if (d (o + 233) v4) ≤ (d (o + 233) x29) then lv (w32 (v3 + 1)) fun x32 => some (Sum.inl (v2, x32)) else lv (w32 (v3 + 1)) fun x33 => some (Sum.inl (v3, x33)))))
noncomputable def fX8_fill_14f (d : Dt) (o v1 : Int) (s : Int × Int) : Option ((Int × Int) ⊕ ((Dt × Int) ⊕ Dt)) := match s with
  | (v2, v3) => (if (d o 42) ≤ v3 then up (ck (0 ≤ v2 ∧ v2 < 9) <| lv (d (o + 232) v2) fun x4 => ck (0 ≤ x4 ∧ x4 < 9) <| (if (d (o + 236) x4) ≤ 0 then fX8_fill_109 d o v1 v2 x4 (-1) else b1 (fX8_nextOf d o x4) fun x18 => fX8_fill_109 d o v1 v2 x4 x18)) else ck (0 ≤ v3 ∧ v3 < 9) <| lv (d (o + 232) v3) fun x21 => (if x21 = (-1) then fX8_fill_41 d o v1 v2 v3 x21 0 else fX8_fill_41 d o v1 v2 v3 x21 1))
noncomputable def fX8_fill_14 (d : Dt) (o v1 v2 v3 : Int) : Option ((Dt × Int) ⊕ Dt) := loop (fX8_fill_14f d o v1) (v2, v3)
noncomputable def fX8_fill_2f (o : Int) (s : Dt × Int) : Option ((Dt × Int) ⊕ Dt) := match s with
  | (d, v1) => (if (d o 42) ≤ v1 then up (some d) else fX8_fill_14 d o v1 (-1) 0)
noncomputable def fX8_fill_2 (d : Dt) (o v1 : Int) : Option Dt := loop (fX8_fill_2f o) (d, v1)
noncomputable def fX8_fill (d : Dt) (o : Int) : Option Dt :=
  fX8_fill_2 d o 0
noncomputable def fX8_tellSeats_66 (d : Dt) (o v1 v2 s1 s2 s3 : Int) : Option ((Dt × Int) ⊕ ((Dt × Int) ⊕ Dt)) :=
  ck (0 ≤ s1 ∧ s1 < 9) <| sd d (o + 126) s1 (w64 (s2 + s3)) fun d11 => lv (w32 (v2 + 1)) fun x12 => some (Sum.inl (d11, x12))
noncomputable def fX8_tellSeats_19f (o v1 : Int) (s : Dt × Int) : Option ((Dt × Int) ⊕ ((Dt × Int) ⊕ Dt)) := match s with
  | (d, v2) => (if (d o 19) ≤ v2 then up (lv (w32 (v1 + 1)) fun x7 => some (Sum.inl (d, x7))) else ck (0 ≤ v1 ∧ v1 < 9) <| (if (d (o + 1) v1) = 0 then fX8_tellSeats_66 d o v1 v2 v1 (d (o + 126) v1) 0 else ck (0 ≤ v2 ∧ v2 < 9) <| b1 (fX8_listOf d o (d (o + 170) v2)) fun x14 => b1 (fX8_listOf d o v1) fun x16 => (if x14 = x16 then fX8_tellSeats_66 d o v1 v2 v1 (d (o + 126) v1) 1 else fX8_tellSeats_66 d o v1 v2 v1 (d (o + 126) v1) 0)))
noncomputable def fX8_tellSeats_19 (d : Dt) (o v1 v2 : Int) : Option ((Dt × Int) ⊕ Dt) := loop (fX8_tellSeats_19f o v1) (d, v2)
noncomputable def fX8_tellSeats_2f (o : Int) (s : Dt × Int) : Option ((Dt × Int) ⊕ Dt) := match s with
  | (d, v1) => (if (d o 3) ≤ v1 then up (bd (fX8_tell d o) fun d2 => some d2) else ck (0 ≤ v1 ∧ v1 < 9) <| sd d (o + 126) v1 0 fun d5 => fX8_tellSeats_19 d5 o v1 0)
noncomputable def fX8_tellSeats_2 (d : Dt) (o v1 : Int) : Option Dt := loop (fX8_tellSeats_2f o) (d, v1)
noncomputable def fX8_tellSeats (d : Dt) (o : Int) : Option Dt :=
  fX8_tellSeats_2 d o 0
noncomputable def fX8_byLists_120 (d : Dt) (o : Int) : Option Dt :=
  bd (fX8_tellSeats d o) fun d19 => some d19
noncomputable def fX8_byLists_116 (d : Dt) (o : Int) : Option Dt :=
  bd (fX8_fill d o) fun d30 => fX8_byLists_120 d30 o
noncomputable def fX8_byLists_73 (d : Dt) (o s1 : Int) : Option Dt :=
  sd d o 22 s1 fun d15 => bd (fX8_admit d15 o) fun d16 => (if (d16 o 49) ≤ 0 then fX8_byLists_120 d16 o else lv (d16 o 0) fun x21 => ck (x21 ≠ 0) <| (if (d16 x21 7) = 0 then lv (d16 o 0) fun x25 => ck (x25 ≠ 0) <| bd (fX8_deal d16 o (d16 x25 1) 1) fun d28 => fX8_byLists_116 d28 o else bd (fX8_level d16 o) fun d32 => fX8_byLists_116 d32 o))
noncomputable def fX8_byLists (d : Dt) (o : Int) : Option Dt :=
  bd (fX8_gatherLists d o) fun d1 => bd (fX8_countLists d1 o) fun d3 => bd (fX8_tell d3 o) fun d5 => cd d5 (o + 126) 0 (o + 241) 0 9 fun d7 => bd (fX8_tellLists d7 o) fun d8 => cd d8 (o + 241) 0 (o + 126) 0 9 fun d10 => lv (d10 o 0) fun x11 => ck (x11 ≠ 0) <| (if (d10 x11 7) = 0 then fX8_byLists_73 d10 o 0 else lv (d10 o 0) fun x34 => ck (x34 ≠ 0) <| fX8_byLists_73 d10 o (w32 ((d10 x34 1) + (d10 o 51))))
noncomputable def fX8_rankAll_2f (o : Int) (s : Dt × Int) : Option ((Dt × Int) ⊕ Dt) := match s with
  | (d, v1) => (if (d o 8) ≤ v1 then up (some d) else ck (0 ≤ v1 ∧ v1 < 60) <| cd d ((o + 3) + v1) 0 (o + 63) 0 9 fun d3 => b2 (fX8_rank d3 o ((o + 65) + v1)) fun d4 x6 => sd d4 (o + 125) v1 x6 fun d7 => lv (w32 (v1 + 1)) fun x8 => some (Sum.inl (d7, x8)))
noncomputable def fX8_rankAll_2 (d : Dt) (o v1 : Int) : Option Dt := loop (fX8_rankAll_2f o) (d, v1)
noncomputable def fX8_rankAll (d : Dt) (o : Int) : Option Dt :=
  fX8_rankAll_2 d o 0
noncomputable def fX8_places_24f (o v1 : Int) (s : Dt × Int) : Option ((Dt × Int) ⊕ ((Dt × Int) ⊕ Dt)) := match s with
  | (d, v2) => ck (0 ≤ v1 ∧ v1 < 60) <| (if (d (o + 125) v1) ≤ v2 then up (lv (w32 (v1 + 1)) fun x8 => some (Sum.inl (d, x8))) else ck (0 ≤ v2 ∧ v2 < 9) <| lv (d ((o + 65) + v1) v2) fun x10 => ck (0 ≤ x10 ∧ x10 < 9) <| sd d (o + 126) x10 (w64 ((d (o + 126) x10) + (w32 ((w32 ((d o 5) - 1)) - v2)))) fun d12 => lv (w32 (v2 + 1)) fun x13 => some (Sum.inl (d12, x13)))
noncomputable def fX8_places_24 (d : Dt) (o v1 v2 : Int) : Option ((Dt × Int) ⊕ Dt) := loop (fX8_places_24f o v1) (d, v2)
noncomputable def fX8_places_14f (o : Int) (s : Dt × Int) : Option ((Dt × Int) ⊕ Dt) := match s with
  | (d, v1) => (if (d o 8) ≤ v1 then up (some d) else fX8_places_24 d o v1 0)
noncomputable def fX8_places_14 (d : Dt) (o v1 : Int) : Option Dt := loop (fX8_places_14f o) (d, v1)
noncomputable def fX8_places (d : Dt) (o : Int) : Option Dt :=
  bd (fX8_rankAll d o) fun d1 => bd (fJ4_fill_3 d1 (o + 126) 9 0) fun d3 => fX8_places_14 d3 o 0
noncomputable def fX8_sums_73 (d : Dt) (o v1 v2 s1 s2 s3 : Int) : Option ((Dt × Int) ⊕ ((Dt × Int) ⊕ Dt)) :=
  ck (0 ≤ s1 ∧ s1 < 9) <| sd d (o + 126) s1 (w64 (s2 + s3)) fun d14 => lv (w32 (v2 + 1)) fun x15 => some (Sum.inl (d14, x15))
noncomputable def fX8_sums_19f (o v1 : Int) (s : Dt × Int) : Option ((Dt × Int) ⊕ ((Dt × Int) ⊕ Dt)) := match s with
  | (d, v2) => (if (d o 8) ≤ v2 then up (lv (w32 (v1 + 1)) fun x5 => some (Sum.inl (d, x5))) else ck (0 ≤ v1 ∧ v1 < 9) <| lv (d o 0) fun x7 => ck (x7 ≠ 0) <| (if (d x7 2) = 3 then ck (0 ≤ v2 ∧ v2 < 60) <| fX8_sums_73 d o v1 v2 v1 (d (o + 126) v1) (d ((o + 3) + v2) v1) else ck (0 ≤ v2 ∧ v2 < 60) <| (if (d ((o + 3) + v2) v1) ≤ 0 then fX8_sums_73 d o v1 v2 v1 (d (o + 126) v1) 0 else fX8_sums_73 d o v1 v2 v1 (d (o + 126) v1) 1)))
noncomputable def fX8_sums_19 (d : Dt) (o v1 v2 : Int) : Option ((Dt × Int) ⊕ Dt) := loop (fX8_sums_19f o v1) (d, v2)
noncomputable def fX8_sums_2f (o : Int) (s : Dt × Int) : Option ((Dt × Int) ⊕ Dt) := match s with
  | (d, v1) => (if (d o 3) ≤ v1 then up (some d) else ck (0 ≤ v1 ∧ v1 < 9) <| sd d (o + 126) v1 0 fun d3 => fX8_sums_19 d3 o v1 0)
noncomputable def fX8_sums_2 (d : Dt) (o v1 : Int) : Option Dt := loop (fX8_sums_2f o) (d, v1)
noncomputable def fX8_sums (d : Dt) (o : Int) : Option Dt :=
  fX8_sums_2 d o 0
noncomputable def fX8_most_5f (d : Dt) (o a1 : Int) (s : Int × Int) : Option ((Int × Int) ⊕ Int) := match s with
  | (v3, v4) => (if (d o 3) ≤ v4 then up (some v3) else lv (d o 1) fun x2 => ck (x2 ≠ 0) <| ck (0 ≤ v4 ∧ v4 < 9) <| lv (d (x2 + 6) v4) fun x6 => b1 (fX8_isIn d o x6) fun x7 => (if x7 = 0 then lv (w32 (v4 + 1)) fun x10 => some (Sum.inl (v3, x10)) else ck (0 ≤ x6 ∧ x6 < 9) <| (if (jCmp (d (o + 126) x6) a1) < 0 then lv (w32 (v4 + 1)) fun x13 => some (Sum.inl (v3, x13)) else (if v3 = (-1) then lv (w32 (v4 + 1)) fun x15 => some (Sum.inl (x6, x15)) else ck (0 ≤ v3 ∧ v3 < 9) <| (if (jCmp (d (o + 126) x6) (d (o + 126) v3)) ≤ 0 then lv (w32 (v4 + 1)) fun x18 => some (Sum.inl (v3, x18)) else lv (w32 (v4 + 1)) fun x19 => some (Sum.inl (x6, x19)))))))
noncomputable def fX8_most_5 (d : Dt) (o a1 v3 v4 : Int) : Option Int := loop (fX8_most_5f d o a1) (v3, v4)
noncomputable def fX8_most (d : Dt) (o a1 : Int) : Option Int :=
  fX8_most_5 d o a1 (-1) 0
noncomputable def fX8_electAll_9f (o a1 : Int) (s : Dt × Int × Int) : Option ((Dt × Int × Int) ⊕ (Dt × Int)) := match s with
  | (d, v3, v4) => (if v4 = (-1) then up ((ck (v3 = 0 ∨ v3 = 1) <| some (d, v3))) else lv (d o 0) fun x4 => ck (x4 ≠ 0) <| (if (d x4 1) ≤ (d o 19) then up ((ck (v3 = 0 ∨ v3 = 1) <| some (d, v3))) else bd (fX8_elect d o v4) fun d8 => b1 (fX8_most d8 o a1) fun x10 => some (Sum.inl (d8, 1, x10))))
noncomputable def fX8_electAll_9 (d : Dt) (o a1 v3 v4 : Int) : Option (Dt × Int) := loop (fX8_electAll_9f o a1) (d, v3, v4)
noncomputable def fX8_electAll (d : Dt) (o a1 : Int) : Option (Dt × Int) :=
  b1 (fX8_most d o a1) fun x1 => fX8_electAll_9 d o a1 0 x1
noncomputable def fX8_bySums_22 (d : Dt) (o : Int) : Option Dt :=
  bd (fX8_tell d o) fun d7 => b2 (fX8_electAll d7 o 0) fun d9 x11 => some d9
noncomputable def fX8_bySums (d : Dt) (o : Int) : Option Dt :=
  lv (d o 0) fun x1 => ck (x1 ≠ 0) <| (if (d x1 2) = 5 then bd (fX8_places d o) fun d12 => fX8_bySums_22 d12 o else bd (fX8_sums d o) fun d5 => fX8_bySums_22 d5 o)
noncomputable def fX8_sortMarks_61 (d : Dt) (o a1 v2 v3 : Int) : Option ((Dt × Int) ⊕ Dt) :=
  ck (0 ≤ a1 ∧ a1 < 9) <| ck (0 ≤ v2 ∧ v2 < 60) <| ck (0 ≤ v3 ∧ v3 < 60) <| sd d ((o + 174) + a1) v3 (w8 (d ((o + 3) + v2) a1)) fun d6 => lv (w32 (v2 + 1)) fun x7 => some (Sum.inl (d6, x7))
noncomputable def fX8_sortMarks_12f (o a1 v2 : Int) (s : Dt × Int) : Option ((Dt × Int) ⊕ ((Dt × Int) ⊕ Dt)) := match s with
  | (d, v3) => (if v3 ≤ 0 then up (fX8_sortMarks_61 d o a1 v2 v3) else ck (0 ≤ a1 ∧ a1 < 9) <| lv (w32 (v3 - 1)) fun x9 => ck (0 ≤ x9 ∧ x9 < 60) <| ck (0 ≤ v2 ∧ v2 < 60) <| (if (d ((o + 3) + v2) a1) ≤ (d ((o + 174) + a1) x9) then up (fX8_sortMarks_61 d o a1 v2 v3) else lv (w32 (v3 - 1)) fun x13 => ck (0 ≤ x13 ∧ x13 < 60) <| ck (0 ≤ v3 ∧ v3 < 60) <| sd d ((o + 174) + a1) v3 (w8 (d ((o + 174) + a1) x13)) fun d16 => lv (w32 (v3 + (-1))) fun x17 => some (Sum.inl (d16, x17))))
noncomputable def fX8_sortMarks_12 (d : Dt) (o a1 v2 v3 : Int) : Option ((Dt × Int) ⊕ Dt) := loop (fX8_sortMarks_12f o a1 v2) (d, v3)
noncomputable def fX8_sortMarks_2f (o a1 : Int) (s : Dt × Int) : Option ((Dt × Int) ⊕ Dt) := match s with
  | (d, v2) => (if (d o 8) ≤ v2 then up (some d) else fX8_sortMarks_12 d o a1 v2 v2)
noncomputable def fX8_sortMarks_2 (d : Dt) (o a1 v2 : Int) : Option Dt := loop (fX8_sortMarks_2f o a1) (d, v2)
noncomputable def fX8_sortMarks (d : Dt) (o a1 : Int) : Option Dt :=
  fX8_sortMarks_2 d o a1 0
noncomputable def fX8_isGraded_43f (o a1 a2 : Int) (s : Dt × Int) : Option ((Dt × Int) ⊕ (Dt × Int)) := match s with
  | (d, v3) => (if v3 ≤ 0 then up (some (d, 0)) else lv (w32 (Int.tdiv v3 2)) fun x11 => ck (0 ≤ x11 ∧ x11 < 60) <| (if (d (o + 183) x11) = (d (o + 184) x11) then lv (w32 ((w32 (v3 - x11)) - 1)) fun x14 => lv (w32 (x11 + 1)) fun x15 => ck ((0 : Int) ≤ x15 ∧ (0 : Int) ≤ x11 ∧ (0 : Int) ≤ x14 ∧ x15 + x14 ≤ 60 ∧ x11 + x14 ≤ 60) <| cd d (o + 183) x15 (o + 183) x11 x14 fun d16 => lv (w32 ((w32 (v3 - x11)) - 1)) fun x18 => lv (w32 (x11 + 1)) fun x19 => ck ((0 : Int) ≤ x19 ∧ (0 : Int) ≤ x11 ∧ (0 : Int) ≤ x18 ∧ x19 + x18 ≤ 60 ∧ x11 + x18 ≤ 60) <| cd d16 (o + 184) x19 (o + 184) x11 x18 fun d20 => lv (w32 (v3 + (-1))) fun x22 => some (Sum.inl (d20, x22)) else up ((if (d (o + 183) x11) ≤ (d (o + 184) x11) then some (d, 0) else some (d, 1)))))
noncomputable def fX8_isGraded_43 (d : Dt) (o a1 a2 v3 : Int) : Option (Dt × Int) := loop (fX8_isGraded_43f o a1 a2) (d, v3)
noncomputable def fX8_isGraded (d : Dt) (o a1 a2 : Int) : Option (Dt × Int) :=
  ck (0 ≤ a1 ∧ a1 < 9) <| lv (d o 8) fun x2 => ck ((0 : Int) ≤ 0 ∧ (0 : Int) ≤ 0 ∧ (0 : Int) ≤ x2 ∧ 0 + x2 ≤ 60 ∧ 0 + x2 ≤ 60) <| cd d ((o + 174) + a1) 0 (o + 183) 0 x2 fun d3 => ck (0 ≤ a2 ∧ a2 < 9) <| lv (d3 o 8) fun x6 => ck ((0 : Int) ≤ 0 ∧ (0 : Int) ≤ 0 ∧ (0 : Int) ≤ x6 ∧ 0 + x6 ≤ 60 ∧ 0 + x6 ≤ 60) <| cd d3 ((o + 174) + a2) 0 (o + 184) 0 x6 fun d7 => lv (d7 o 8) fun x9 => fX8_isGraded_43 d7 o a1 a2 x9
noncomputable def fX8_byMedians_123f (o : Int) (s : Dt × Int × Int) : Option ((Dt × Int × Int) ⊕ ((Dt) ⊕ Dt)) := match s with
  | (d, v1, v2) => (if (d o 3) ≤ v2 then up (bd (fX8_elect d o v1) fun d8 => some (Sum.inl d8)) else lv (d o 1) fun x10 => ck (x10 ≠ 0) <| ck (0 ≤ v2 ∧ v2 < 9) <| lv (d (x10 + 6) v2) fun x14 => b1 (fX8_isIn d o x14) fun x15 => (if x15 = 0 then lv (w32 (v2 + 1)) fun x18 => some (Sum.inl (d, v1, x18)) else (if v1 = (-1) then lv (w32 (v2 + 1)) fun x20 => some (Sum.inl (d, x14, x20)) else b2 (fX8_isGraded d o x14 v1) fun d21 x23 => (if x23 = 0 then lv (w32 (v2 + 1)) fun x25 => some (Sum.inl (d21, v1, x25)) else lv (w32 (v2 + 1)) fun x26 => some (Sum.inl (d21, x14, x26))))))
noncomputable def fX8_byMedians_123 (d : Dt) (o v1 v2 : Int) : Option ((Dt) ⊕ Dt) := loop (fX8_byMedians_123f o) (d, v1, v2)
noncomputable def fX8_byMedians_105f (o : Int) (s : Dt) : Option ((Dt) ⊕ Dt) := (fun d => lv (d o 0) fun x3 => ck (x3 ≠ 0) <| (if (d x3 1) ≤ (d o 19) then up (some d) else fX8_byMedians_123 d o (-1) 0)) s
noncomputable def fX8_byMedians_105 (d : Dt) (o : Int) : Option Dt := loop (fX8_byMedians_105f o) d
noncomputable def fX8_byMedians_81 (d : Dt) (o v1 v2 v3 s1 s2 s3 : Int) : Option ((Dt × Int) ⊕ ((Dt × Int) ⊕ ((Dt × Int) ⊕ Dt))) :=
  ck (0 ≤ s1 ∧ s1 < 9) <| sd d (o + 126) s1 (w64 (s2 + s3)) fun d39 => lv (w32 (v3 + 1)) fun x40 => some (Sum.inl (d39, x40))
noncomputable def fX8_byMedians_49f (o v1 v2 : Int) (s : Dt × Int) : Option ((Dt × Int) ⊕ ((Dt × Int) ⊕ ((Dt × Int) ⊕ Dt))) := match s with
  | (d, v3) => (if (d o 8) ≤ v3 then up (lv (w32 (v2 + 1)) fun x34 => some (Sum.inl (d, x34))) else ck (0 ≤ v2 ∧ v2 < 9) <| ck (0 ≤ v3 ∧ v3 < 60) <| (if (d ((o + 3) + v3) v2) = v1 then fX8_byMedians_81 d o v1 v2 v3 v2 (d (o + 126) v2) 1 else fX8_byMedians_81 d o v1 v2 v3 v2 (d (o + 126) v2) 0))
noncomputable def fX8_byMedians_49 (d : Dt) (o v1 v2 v3 : Int) : Option ((Dt × Int) ⊕ ((Dt × Int) ⊕ Dt)) := loop (fX8_byMedians_49f o v1 v2) (d, v3)
noncomputable def fX8_byMedians_39f (o v1 : Int) (s : Dt × Int) : Option ((Dt × Int) ⊕ ((Dt × Int) ⊕ Dt)) := match s with
  | (d, v2) => (if (d o 3) ≤ v2 then up (bd (fX8_tell d o) fun d30 => lv (w32 (v1 + 1)) fun x32 => some (Sum.inl (d30, x32))) else fX8_byMedians_49 d o v1 v2 0)
noncomputable def fX8_byMedians_39 (d : Dt) (o v1 v2 : Int) : Option ((Dt × Int) ⊕ Dt) := loop (fX8_byMedians_39f o v1) (d, v2)
noncomputable def fX8_byMedians_23f (o : Int) (s : Dt × Int) : Option ((Dt × Int) ⊕ Dt) := match s with
  | (d, v1) => (if 10 ≤ v1 then up (fX8_byMedians_105 d o) else bd (fJ4_fill_3 d (o + 126) 9 0) fun d27 => fX8_byMedians_39 d27 o v1 0)
noncomputable def fX8_byMedians_23 (d : Dt) (o v1 : Int) : Option Dt := loop (fX8_byMedians_23f o) (d, v1)
noncomputable def fX8_byMedians_2f (o : Int) (s : Dt × Int) : Option ((Dt × Int) ⊕ Dt) := match s with
  | (d, v1) => (if (d o 3) ≤ v1 then up (fX8_byMedians_23 d o 0) else bd (fX8_sortMarks d o v1) fun d41 => lv (w32 (v1 + 1)) fun x43 => some (Sum.inl (d41, x43)))
noncomputable def fX8_byMedians_2 (d : Dt) (o v1 : Int) : Option Dt := loop (fX8_byMedians_2f o) (d, v1)
noncomputable def fX8_byMedians (d : Dt) (o : Int) : Option Dt :=
  fX8_byMedians_2 d o 0
noncomputable def fX8_nextOn_2f (d : Dt) (o a1 : Int) (s : Int) : Option ((Int) ⊕ Int) := (fun v2 => ck (0 ≤ a1 ∧ a1 < 60) <| (if (d (o + 125) a1) ≤ v2 then up (some (-1)) else ck (0 ≤ v2 ∧ v2 < 9) <| b1 (fX8_isIn d o (d ((o + 65) + a1) v2)) fun x4 => (if x4 = 0 then lv (w32 (v2 + 1)) fun x7 => some (Sum.inl x7) else up (some (d ((o + 65) + a1) v2))))) s
noncomputable def fX8_nextOn_2 (d : Dt) (o a1 v2 : Int) : Option Int := loop (fX8_nextOn_2f d o a1) v2
noncomputable def fX8_nextOn (d : Dt) (o a1 : Int) : Option Int :=
  fX8_nextOn_2 d o a1 0
noncomputable def fX8_firsts_10f (o : Int) (s : Dt × Int) : Option ((Dt × Int) ⊕ Dt) := match s with
  | (d, v1) => (if (d o 8) ≤ v1 then up (some d) else b1 (fX8_nextOn d o v1) fun x4 => (if x4 = (-1) then lv (w32 (v1 + 1)) fun x7 => some (Sum.inl (d, x7)) else ck (0 ≤ x4 ∧ x4 < 9) <| sd d (o + 126) x4 (w64 ((d (o + 126) x4) + 1)) fun d9 => lv (w32 (v1 + 1)) fun x10 => some (Sum.inl (d9, x10))))
noncomputable def fX8_firsts_10 (d : Dt) (o v1 : Int) : Option Dt := loop (fX8_firsts_10f o) (d, v1)
noncomputable def fX8_firsts (d : Dt) (o : Int) : Option Dt :=
  bd (fJ4_fill_3 d (o + 126) 9 0) fun d1 => fX8_firsts_10 d1 o 0
noncomputable def fX8_inMany_26 (d : Dt) (o v2 s0 s1 : Int) : Option ((Int × Int) ⊕ Int) :=
  lv (w32 (s0 + s1)) fun x5 => lv (w32 (v2 + 1)) fun x6 => some (Sum.inl (x5, x6))
noncomputable def fX8_inMany_4f (d : Dt) (o : Int) (s : Int × Int) : Option ((Int × Int) ⊕ Int) := match s with
  | (v1, v2) => (if (d o 3) ≤ v2 then up (some v1) else b1 (fX8_isIn d o v2) fun x2 => (if x2 = 0 then fX8_inMany_26 d o v2 v1 0 else fX8_inMany_26 d o v2 v1 1))
noncomputable def fX8_inMany_4 (d : Dt) (o v1 v2 : Int) : Option Int := loop (fX8_inMany_4f d o) (v1, v2)
noncomputable def fX8_inMany (d : Dt) (o : Int) : Option Int :=
  fX8_inMany_4 d o 0 0
noncomputable def fX8_isMore_7f (d : Dt) (o a1 a2 : Int) (s : Int) : Option ((Int) ⊕ Int) := (fun v3 => (if v3 < 0 then up (some 0) else ck (0 ≤ v3 ∧ v3 < 40) <| ck (0 ≤ a1 ∧ a1 < 9) <| ck (0 ≤ a2 ∧ a2 < 9) <| (if (jCmp (d ((o + 128) + v3) a1) (d ((o + 128) + v3) a2)) = 0 then lv (w32 (v3 + (-1))) fun x7 => some (Sum.inl x7) else up ((if (jCmp (d ((o + 128) + v3) a1) (d ((o + 128) + v3) a2)) ≤ 0 then some 0 else some 1))))) s
noncomputable def fX8_isMore_7 (d : Dt) (o a1 a2 v3 : Int) : Option Int := loop (fX8_isMore_7f d o a1 a2) v3
noncomputable def fX8_isMore (d : Dt) (o a1 a2 : Int) : Option Int :=
  lv (w32 ((d o 17) - 1)) fun x1 => fX8_isMore_7 d o a1 a2 x1
noncomputable def fX8_fewest_4f (d : Dt) (o : Int) (s : Int × Int) : Option ((Int × Int) ⊕ Int) := match s with
  | (v1, v2) => (if (d o 3) ≤ v2 then up (some v1) else lv (d o 1) fun x2 => ck (x2 ≠ 0) <| ck (0 ≤ v2 ∧ v2 < 9) <| lv (d (x2 + 6) v2) fun x6 => b1 (fX8_isIn d o x6) fun x7 => (if x7 = 0 then lv (w32 (v2 + 1)) fun x10 => some (Sum.inl (v1, x10)) else (if v1 = (-1) then lv (w32 (v2 + 1)) fun x12 => some (Sum.inl (x6, x12)) else b1 (fX8_isMore d o x6 v1) fun x13 => (if x13 = 0 then lv (w32 (v2 + 1)) fun x17 => some (Sum.inl (x6, x17)) else lv (w32 (v2 + 1)) fun x16 => some (Sum.inl (v1, x16))))))
noncomputable def fX8_fewest_4 (d : Dt) (o v1 v2 : Int) : Option Int := loop (fX8_fewest_4f d o) (v1, v2)
noncomputable def fX8_fewest (d : Dt) (o : Int) : Option Int :=
  fX8_fewest_4 d o (-1) 0
noncomputable def fX8_act (d : Dt) (o a1 a2 : Int) : Option Dt :=
  lv (w32 ((d o 17) - 1)) fun x1 => ck (0 ≤ x1 ∧ x1 < 40) <| sd d (o + 168) x1 a1 fun d3 => lv (w32 ((d3 o 17) - 1)) fun x4 => ck (0 ≤ x4 ∧ x4 < 40) <| sd d3 (o + 169) x4 a2 fun d6 => some d6
noncomputable def fX8_goes (d : Dt) (o a1 : Int) : Option Dt :=
  ck (0 ≤ a1 ∧ a1 < 9) <| sd d (o + 172) a1 (1 % 2) fun d2 => bd (fX8_act d2 o 2 a1) fun d3 => some d3
noncomputable def fX8_byLeaving_37 (d : Dt) (o s0 : Int) : Option ((Dt × Int) ⊕ Dt) :=
  (if s0 = 0 then some (Sum.inl (d, s0)) else b1 (fX8_fewest d o) fun x18 => bd (fX8_goes d o x18) fun d20 => some (Sum.inl (d20, s0)))
noncomputable def fX8_byLeaving_6f (o : Int) (s : Dt × Int) : Option ((Dt × Int) ⊕ Dt) := match s with
  | (d, v1) => (if v1 = 0 then up (b2 (fX8_electAll d o 0) fun d4 x6 => some d4) else bd (fX8_firsts d o) fun d7 => bd (fX8_tell d7 o) fun d9 => b1 (fX8_inMany d9 o) fun x11 => lv (d9 o 0) fun x13 => ck (x13 ≠ 0) <| (if x11 ≤ (d9 x13 1) then fX8_byLeaving_37 d9 o 0 else fX8_byLeaving_37 d9 o 1))
noncomputable def fX8_byLeaving_6 (d : Dt) (o v1 : Int) : Option Dt := loop (fX8_byLeaving_6f o) (d, v1)
noncomputable def fX8_byLeaving (d : Dt) (o : Int) : Option Dt :=
  bd (fX8_rankAll d o) fun d1 => fX8_byLeaving_6 d1 o 1
noncomputable def fX8_up (a1 a2 a3 : Int) : Option Int :=
  ck (a3 ≠ 0) <| some (w64 (Int.tdiv (w64 ((w64 ((w64 (a1 * a2)) + a3)) - 1)) a3))
noncomputable def fX8_flow_30f (o v1 : Int) (s : Dt × Int × Int) : Option ((Dt × Int × Int) ⊕ ((Dt × Int) ⊕ Dt)) := match s with
  | (d, v2, v4) => ck (0 ≤ v1 ∧ v1 < 60) <| (if (d (o + 125) v1) ≤ v4 then up (lv (w32 (v1 + 1)) fun x13 => some (Sum.inl (d, x13))) else ck (0 ≤ v4 ∧ v4 < 9) <| lv (d ((o + 65) + v1) v4) fun x15 => ck (0 ≤ x15 ∧ x15 < 9) <| b1 (fX8_up v2 (d (o + 188) x15) 100000000) fun x17 => sd d (o + 126) x15 (w64 ((d (o + 126) x15) + x17)) fun d19 => sd d19 o 32 (w64 ((d19 o 32) + x17)) fun d20 => lv (w64 (v2 - x17)) fun x21 => lv (w32 (v4 + 1)) fun x22 => some (Sum.inl (d20, x21, x22)))
noncomputable def fX8_flow_30 (d : Dt) (o v1 v2 v4 : Int) : Option ((Dt × Int) ⊕ Dt) := loop (fX8_flow_30f o v1) (d, v2, v4)
noncomputable def fX8_flow_15f (o : Int) (s : Dt × Int) : Option ((Dt × Int) ⊕ Dt) := match s with
  | (d, v1) => (if (d o 8) ≤ v1 then up (lv (d o 0) fun x5 => ck (x5 ≠ 0) <| lv (w32 ((d x5 1) + 1)) fun x8 => ck (x8 ≠ 0) <| sd d o 29 (w64 ((w64 (Int.tdiv (d o 32) x8)) + 1)) fun d10 => some d10) else fX8_flow_30 d o v1 100000000 0)
noncomputable def fX8_flow_15 (d : Dt) (o v1 : Int) : Option Dt := loop (fX8_flow_15f o) (d, v1)
noncomputable def fX8_flow (d : Dt) (o : Int) : Option Dt :=
  bd (fJ4_fill_3 d (o + 126) 9 0) fun d1 => sd d1 o 32 0 fun d3 => fX8_flow_15 d3 o 0
noncomputable def fX8_ends_35 (d : Dt) (o : Int) : Option (Dt × Int) :=
  b2 (fX8_electAll d o 0) fun d5 x7 => some (d5, 1)
noncomputable def fX8_ends (d : Dt) (o : Int) : Option (Dt × Int) :=
  lv (d o 0) fun x1 => ck (x1 ≠ 0) <| (if (d x1 1) ≤ (d o 19) then fX8_ends_35 d o else b1 (fX8_inMany d o) fun x8 => lv (d o 0) fun x10 => ck (x10 ≠ 0) <| (if (w32 ((d o 19) + x8)) ≤ (d x10 1) then fX8_ends_35 d o else some (d, 0)))
noncomputable def fX8_surplus_4f (d : Dt) (o : Int) (s : Int × Int) : Option ((Int × Int) ⊕ Int) := match s with
  | (v1, v3) => (if (d o 19) ≤ v3 then up (some v1) else ck (0 ≤ v3 ∧ v3 < 9) <| lv (d (o + 170) v3) fun x3 => ck (0 ≤ x3 ∧ x3 < 9) <| lv (w64 (v1 + (fJ9_max_2 0 (w64 ((d (o + 126) x3) - (d o 29)))))) fun x5 => lv (w32 (v3 + 1)) fun x6 => some (Sum.inl (x5, x6)))
noncomputable def fX8_surplus_4 (d : Dt) (o v1 v3 : Int) : Option Int := loop (fX8_surplus_4f d o) (v1, v3)
noncomputable def fX8_surplus (d : Dt) (o : Int) : Option Int :=
  fX8_surplus_4 d o 0 0
noncomputable def fX8_fewestNow_4f (d : Dt) (o : Int) (s : Int × Int) : Option ((Int × Int) ⊕ Int) := match s with
  | (v1, v2) => (if (d o 3) ≤ v2 then up (some v1) else lv (d o 1) fun x2 => ck (x2 ≠ 0) <| ck (0 ≤ v2 ∧ v2 < 9) <| lv (d (x2 + 6) v2) fun x6 => b1 (fX8_isIn d o x6) fun x7 => (if x7 = 0 then lv (w32 (v2 + 1)) fun x10 => some (Sum.inl (v1, x10)) else (if v1 = (-1) then lv (w32 (v2 + 1)) fun x12 => some (Sum.inl (x6, x12)) else ck (0 ≤ x6 ∧ x6 < 9) <| ck (0 ≤ v1 ∧ v1 < 9) <| (if 0 < (jCmp (d (o + 126) x6) (d (o + 126) v1)) then lv (w32 (v2 + 1)) fun x16 => some (Sum.inl (v1, x16)) else lv (w32 (v2 + 1)) fun x17 => some (Sum.inl (x6, x17))))))
noncomputable def fX8_fewestNow_4 (d : Dt) (o v1 v2 : Int) : Option Int := loop (fX8_fewestNow_4f d o) (v1, v2)
noncomputable def fX8_fewestNow (d : Dt) (o : Int) : Option Int :=
  fX8_fewestNow_4 d o (-1) 0
noncomputable def fX8_byKeeping_219 (d : Dt) (o v1 v3 v8 s1 s2 : Int) : Option ((Dt × Int) ⊕ ((Dt × Int × Int) ⊕ Dt)) :=
  ck (0 ≤ s1 ∧ s1 < 9) <| sd d (o + 188) s1 s2 fun d31 => lv (w32 (v8 + 1)) fun x32 => some (Sum.inl (d31, x32))
noncomputable def fX8_byKeeping_142f (o v1 v3 : Int) (s : Dt × Int) : Option ((Dt × Int) ⊕ ((Dt × Int × Int) ⊕ Dt)) := match s with
  | (d, v8) => (if (d o 19) ≤ v8 then up (some (Sum.inl (d, v1, v3))) else (if v3 = 0 then up (some (Sum.inl (d, v1, v3))) else ck (0 ≤ v8 ∧ v8 < 9) <| lv (d (o + 170) v8) fun x25 => ck (0 ≤ x25 ∧ x25 < 9) <| (if (jCmp (d (o + 126) x25) 0) = 0 then fX8_byKeeping_219 d o v1 v3 v8 x25 (d (o + 188) x25) else b1 (fX8_up (d (o + 188) x25) (d o 29) (d (o + 126) x25)) fun x28 => fX8_byKeeping_219 d o v1 v3 v8 x25 (fJ9_min_2 100000000 x28))))
noncomputable def fX8_byKeeping_142 (d : Dt) (o v1 v3 v8 : Int) : Option ((Dt × Int × Int) ⊕ Dt) := loop (fX8_byKeeping_142f o v1 v3) (d, v8)
noncomputable def fX8_byKeeping_105 (d : Dt) (o v1 v3 v4 v7 : Int) : Option ((Dt × Int × Int) ⊕ Dt) :=
  (if v3 = 0 then fX8_byKeeping_142 d o v1 v3 0 else (if v4 = 0 then (if v7 = 0 then fX8_byKeeping_142 d o v1 v3 0 else b1 (fX8_fewestNow d o) fun x35 => bd (fX8_goes d o x35) fun d37 => ck (0 ≤ x35 ∧ x35 < 9) <| sd d37 (o + 188) x35 0 fun d40 => fX8_byKeeping_142 d40 o v1 v3 0) else fX8_byKeeping_142 d o v1 v3 0))
noncomputable def fX8_byKeeping_97 (d : Dt) (o v3 v4 v7 : Int) : Option ((Dt × Int × Int) ⊕ Dt) :=
  bd (fX8_tell d o) fun d19 => fX8_byKeeping_105 d19 o 9223372036854775807 v3 v4 v7
noncomputable def fX8_byKeeping_78 (d : Dt) (o v3 v4 v5 s0 : Int) : Option ((Dt × Int × Int) ⊕ Dt) :=
  (if v3 = 0 then fX8_byKeeping_97 d o v3 v4 s0 else (if v4 = 0 then (if s0 = 0 then fX8_byKeeping_105 d o v5 v3 v4 s0 else fX8_byKeeping_97 d o v3 v4 s0) else fX8_byKeeping_97 d o v3 v4 s0))
noncomputable def fX8_byKeeping_50 (d : Dt) (o v1 v4 s0 : Int) : Option ((Dt × Int × Int) ⊕ Dt) :=
  b1 (fX8_surplus d o) fun x15 => (if (jCmp x15 100) < 0 then fX8_byKeeping_78 d o s0 v4 x15 1 else (if (jCmp x15 v1) < 0 then fX8_byKeeping_78 d o s0 v4 x15 0 else fX8_byKeeping_78 d o s0 v4 x15 1))
noncomputable def fX8_byKeeping_20f (o : Int) (s : Dt × Int × Int) : Option ((Dt × Int × Int) ⊕ Dt) := match s with
  | (d, v1, v3) => (if v3 = 0 then up (some d) else bd (fX8_flow d o) fun d6 => b2 (fX8_electAll d6 o (d6 o 29)) fun d8 x10 => b2 (fX8_ends d8 o) fun d11 x13 => (if x13 = 0 then fX8_byKeeping_50 d11 o v1 x10 1 else fX8_byKeeping_50 d11 o v1 x10 0))
noncomputable def fX8_byKeeping_20 (d : Dt) (o v1 v3 : Int) : Option Dt := loop (fX8_byKeeping_20f o) (d, v1, v3)
noncomputable def fX8_byKeeping (d : Dt) (o : Int) : Option Dt :=
  bd (fX8_rankAll d o) fun d1 => bd (fJ4_fill_3 d1 (o + 188) 9 100000000) fun d3 => fX8_byKeeping_20 d3 o 9223372036854775807 1
noncomputable def fX8_lay_83f (o v1 : Int) (s : Dt × Int) : Option ((Dt × Int) ⊕ Dt) := match s with
  | (d, v3) => (if (d o 8) ≤ v3 then up (bd (fJ4_fill d (o + 187) 9 0) fun d19 => some d19) else ck (0 ≤ v3 ∧ v3 < 60) <| sd d (o + 185) v3 v1 fun d22 => b1 (fX8_nextOn d22 o v3) fun x23 => sd d22 (o + 186) v3 x23 fun d25 => lv (w32 (v3 + 1)) fun x26 => some (Sum.inl (d25, x26)))
noncomputable def fX8_lay_83 (d : Dt) (o v1 v3 : Int) : Option Dt := loop (fX8_lay_83f o v1) (d, v3)
noncomputable def fX8_lay_63 (d : Dt) (o v1 s1 s2 : Int) : Option Dt :=
  sd d o 29 (w64 (s1 * s2)) fun d14 => sd d14 o 30 (d14 o 2) fun d15 => bd (fX8_rankAll d15 o) fun d16 => fX8_lay_83 d16 o v1 0
noncomputable def fX8_lay_19 (d : Dt) (o s0 : Int) : Option Dt :=
  lv (d o 0) fun x5 => ck (x5 ≠ 0) <| (if (d x5 3) = 0 then lv (d o 0) fun x27 => ck (x27 ≠ 0) <| lv (d x27 1) fun x30 => ck (x30 ≠ 0) <| fX8_lay_63 d o s0 s0 (w32 (Int.tdiv (d o 8) x30)) else lv (d o 0) fun x9 => ck (x9 ≠ 0) <| lv (w32 ((d x9 1) + 1)) fun x12 => ck (x12 ≠ 0) <| fX8_lay_63 d o s0 s0 (w32 ((w32 (Int.tdiv (d o 8) x12)) + 1)))
noncomputable def fX8_lay (d : Dt) (o : Int) : Option Dt :=
  lv (d o 0) fun x1 => ck (x1 ≠ 0) <| (if (d x1 2) = 12 then fX8_lay_19 d o 1000000 else fX8_lay_19 d o 1)
noncomputable def fX8_weigh_41f (o : Int) (s : Dt × Int) : Option ((Dt × Int) ⊕ Dt) := match s with
  | (d, v1) => (if (d o 8) ≤ v1 then up (some d) else ck (0 ≤ v1 ∧ v1 < 60) <| (if (d (o + 186) v1) = (-1) then lv (w32 (v1 + 1)) fun x5 => some (Sum.inl (d, x5)) else lv (d (o + 186) v1) fun x6 => ck (0 ≤ x6 ∧ x6 < 9) <| sd d (o + 126) x6 (w64 ((d (o + 126) x6) + (d (o + 185) v1))) fun d8 => lv (w32 (v1 + 1)) fun x9 => some (Sum.inl (d8, x9))))
noncomputable def fX8_weigh_41 (d : Dt) (o v1 : Int) : Option Dt := loop (fX8_weigh_41f o) (d, v1)
noncomputable def fX8_weigh_32 (d : Dt) (o v1 s1 s2 : Int) : Option ((Dt × Int) ⊕ Dt) :=
  ck (0 ≤ s1 ∧ s1 < 9) <| sd d (o + 126) s1 s2 fun d13 => lv (w32 (v1 + 1)) fun x14 => some (Sum.inl (d13, x14))
noncomputable def fX8_weigh_2f (o : Int) (s : Dt × Int) : Option ((Dt × Int) ⊕ Dt) := match s with
  | (d, v1) => (if (d o 3) ≤ v1 then up (fX8_weigh_41 d o 0) else ck (0 ≤ v1 ∧ v1 < 9) <| (if (d (o + 187) v1) = 0 then fX8_weigh_32 d o v1 v1 0 else fX8_weigh_32 d o v1 v1 (d o 29)))
noncomputable def fX8_weigh_2 (d : Dt) (o v1 : Int) : Option Dt := loop (fX8_weigh_2f o) (d, v1)
noncomputable def fX8_weigh (d : Dt) (o : Int) : Option Dt :=
  fX8_weigh_2 d o 0
noncomputable def fX8_richest_4f (d : Dt) (o : Int) (s : Int × Int) : Option ((Int × Int) ⊕ Int) := match s with
  | (v1, v2) => (if (d o 19) ≤ v2 then up (some v1) else ck (0 ≤ v2 ∧ v2 < 9) <| lv (d (o + 170) v2) fun x3 => ck (0 ≤ x3 ∧ x3 < 9) <| (if (d (o + 187) x3) = 0 then (if (jCmp (d (o + 126) x3) (d o 29)) ≤ 0 then lv (w32 (v2 + 1)) fun x8 => some (Sum.inl (v1, x8)) else (if v1 = (-1) then lv (w32 (v2 + 1)) fun x10 => some (Sum.inl (x3, x10)) else ck (0 ≤ v1 ∧ v1 < 9) <| (if (jCmp (d (o + 126) x3) (d (o + 126) v1)) ≤ 0 then lv (w32 (v2 + 1)) fun x13 => some (Sum.inl (v1, x13)) else lv (w32 (v2 + 1)) fun x14 => some (Sum.inl (x3, x14))))) else lv (w32 (v2 + 1)) fun x6 => some (Sum.inl (v1, x6))))
noncomputable def fX8_richest_4 (d : Dt) (o v1 v2 : Int) : Option Int := loop (fX8_richest_4f d o) (v1, v2)
noncomputable def fX8_richest (d : Dt) (o : Int) : Option Int :=
  fX8_richest_4 d o (-1) 0
noncomputable def fX8_giveParts_2f (o a1 : Int) (s : Dt × Int) : Option ((Dt × Int) ⊕ Dt) := match s with
  | (d, v2) => (if (d o 8) ≤ v2 then up (some d) else ck (0 ≤ v2 ∧ v2 < 60) <| (if (d (o + 186) v2) = a1 then ck (0 ≤ a1 ∧ a1 < 9) <| lv (d (o + 126) a1) fun x6 => ck (x6 ≠ 0) <| sd d (o + 185) v2 (w64 (Int.tdiv (w64 ((d (o + 185) v2) * (w64 ((d (o + 126) a1) - (d o 29))))) x6)) fun d8 => b1 (fX8_nextOn d8 o v2) fun x9 => sd d8 (o + 186) v2 x9 fun d11 => lv (w32 (v2 + 1)) fun x12 => some (Sum.inl (d11, x12)) else lv (w32 (v2 + 1)) fun x4 => some (Sum.inl (d, x4))))
noncomputable def fX8_giveParts_2 (d : Dt) (o a1 v2 : Int) : Option Dt := loop (fX8_giveParts_2f o a1) (d, v2)
noncomputable def fX8_giveParts (d : Dt) (o a1 : Int) : Option Dt :=
  fX8_giveParts_2 d o a1 0
noncomputable def fX8_giveWhole_75 (d : Dt) (o a1 v2 v5 s0 s1 : Int) : Option ((Int × Int) ⊕ ((Dt × Int) ⊕ Dt)) :=
  lv (w32 (s0 - s1)) fun x11 => lv (w32 (v5 + 1)) fun x12 => some (Sum.inl (x11, x12))
noncomputable def fX8_giveWhole_57 (d : Dt) (o a1 v2 v4 v5 : Int) : Option ((Int × Int) ⊕ ((Dt × Int) ⊕ Dt)) :=
  ck (0 ≤ v5 ∧ v5 < 60) <| (if (d (o + 186) v5) = a1 then fX8_giveWhole_75 d o a1 v2 v5 v4 1 else fX8_giveWhole_75 d o a1 v2 v5 v4 0)
noncomputable def fX8_giveWhole_41f (d : Dt) (o a1 v2 : Int) (s : Int × Int) : Option ((Int × Int) ⊕ ((Dt × Int) ⊕ Dt)) := match s with
  | (v4, v5) => ck (0 ≤ v5 ∧ v5 < 60) <| (if (d (o + 186) v5) = a1 then (if v4 ≤ 0 then up (b1 (fX8_nextOn d o v5) fun x14 => sd d (o + 186) v5 x14 fun d16 => lv (w64 (v2 - 1)) fun x17 => some (Sum.inl (d16, x17))) else fX8_giveWhole_57 d o a1 v2 v4 v5) else fX8_giveWhole_57 d o a1 v2 v4 v5)
noncomputable def fX8_giveWhole_41 (d : Dt) (o a1 v2 v4 v5 : Int) : Option ((Dt × Int) ⊕ Dt) := loop (fX8_giveWhole_41f d o a1 v2) (v4, v5)
noncomputable def fX8_giveWhole_7f (o a1 : Int) (s : Dt × Int) : Option ((Dt × Int) ⊕ Dt) := match s with
  | (d, v2) => (if (jCmp v2 (d o 29)) ≤ 0 then up (some d) else sd d o 30 (fX0_stepped (d o 30)) fun d4 => b1 (fX0_placeOf (d4 o 30) (w32 v2)) fun x5 => fX8_giveWhole_41 d4 o a1 v2 x5 0)
noncomputable def fX8_giveWhole_7 (d : Dt) (o a1 v2 : Int) : Option Dt := loop (fX8_giveWhole_7f o a1) (d, v2)
noncomputable def fX8_giveWhole (d : Dt) (o a1 : Int) : Option Dt :=
  ck (0 ≤ a1 ∧ a1 < 9) <| lv (d (o + 126) a1) fun x2 => fX8_giveWhole_7 d o a1 x2
noncomputable def fX8_give_71 (d : Dt) (o a1 v2 s1 s2 : Int) : Option ((Dt × Int) ⊕ Dt) :=
  ck (0 ≤ s1 ∧ s1 < 60) <| sd d (o + 186) s1 s2 fun d15 => lv (w32 (v2 + 1)) fun x16 => some (Sum.inl (d15, x16))
noncomputable def fX8_give_38f (o a1 : Int) (s : Dt × Int) : Option ((Dt × Int) ⊕ Dt) := match s with
  | (d, v2) => (if (d o 8) ≤ v2 then up (ck (0 ≤ a1 ∧ a1 < 9) <| sd d (o + 187) a1 (1 % 2) fun d11 => some d11) else ck (0 ≤ v2 ∧ v2 < 60) <| (if (d (o + 186) v2) = a1 then fX8_give_71 d o a1 v2 v2 (-1) else fX8_give_71 d o a1 v2 v2 (d (o + 186) v2)))
noncomputable def fX8_give_38 (d : Dt) (o a1 v2 : Int) : Option Dt := loop (fX8_give_38f o a1) (d, v2)
noncomputable def fX8_give (d : Dt) (o a1 : Int) : Option Dt :=
  bd (fX8_act d o 1 a1) fun d1 => lv (d1 o 0) fun x3 => ck (x3 ≠ 0) <| (if (d1 x3 2) = 12 then bd (fX8_giveParts d1 o a1) fun d17 => ck (0 ≤ a1 ∧ a1 < 9) <| sd d17 (o + 187) a1 (1 % 2) fun d20 => some d20 else bd (fX8_giveWhole d1 o a1) fun d7 => fX8_give_38 d7 o a1 0)
noncomputable def fX8_leave_44 (d : Dt) (o a1 v2 s1 s2 : Int) : Option ((Dt × Int) ⊕ Dt) :=
  ck (0 ≤ s1 ∧ s1 < 60) <| sd d (o + 186) s1 s2 fun d7 => lv (w32 (v2 + 1)) fun x8 => some (Sum.inl (d7, x8))
noncomputable def fX8_leave_7f (o a1 : Int) (s : Dt × Int) : Option ((Dt × Int) ⊕ Dt) := match s with
  | (d, v2) => (if (d o 8) ≤ v2 then up (some d) else ck (0 ≤ v2 ∧ v2 < 60) <| (if (d (o + 186) v2) = a1 then b1 (fX8_nextOn d o v2) fun x9 => fX8_leave_44 d o a1 v2 v2 x9 else fX8_leave_44 d o a1 v2 v2 (d (o + 186) v2)))
noncomputable def fX8_leave_7 (d : Dt) (o a1 v2 : Int) : Option Dt := loop (fX8_leave_7f o a1) (d, v2)
noncomputable def fX8_leave (d : Dt) (o a1 : Int) : Option Dt :=
  bd (fX8_goes d o a1) fun d1 => fX8_leave_7 d1 o a1 0
noncomputable def fX8_byTransfers_39 (d : Dt) (o s0 : Int) : Option ((Dt × Int) ⊕ Dt) :=
  (if s0 = 0 then some (Sum.inl (d, s0)) else b1 (fX8_richest d o) fun x16 => (if x16 = (-1) then b1 (fX8_fewest d o) fun x19 => bd (fX8_leave d o x19) fun d21 => some (Sum.inl (d21, s0)) else bd (fX8_give d o x16) fun d23 => some (Sum.inl (d23, s0))))
noncomputable def fX8_byTransfers_6f (o : Int) (s : Dt × Int) : Option ((Dt × Int) ⊕ Dt) := match s with
  | (d, v1) => (if v1 = 0 then up (some d) else bd (fX8_weigh d o) fun d4 => bd (fX8_tell d4 o) fun d6 => b2 (fX8_electAll d6 o (d6 o 29)) fun d8 x10 => b2 (fX8_ends d8 o) fun d11 x13 => (if x13 = 0 then fX8_byTransfers_39 d11 o 1 else fX8_byTransfers_39 d11 o 0))
noncomputable def fX8_byTransfers_6 (d : Dt) (o v1 : Int) : Option Dt := loop (fX8_byTransfers_6f o) (d, v1)
noncomputable def fX8_byTransfers (d : Dt) (o : Int) : Option Dt :=
  bd (fX8_lay d o) fun d1 => fX8_byTransfers_6 d1 o 1
def fX8_isAbove (a1 a2 : Int) : Int :=
  (if a1 ≤ 0 then 0 else (if a2 = 0 then 1 else (if a2 ≤ a1 then 0 else 1)))
noncomputable def fX8_matrix_182 (d : Dt) (o v1 v2 s0 s1 s2 : Int) : Option ((Dt × Int) ⊕ ((Dt × Int) ⊕ Dt)) :=
  ck (0 ≤ s1 ∧ s1 < 9) <| sd d s0 s1 (s2 % 2) fun d8 => lv (w32 (v2 + 1)) fun x9 => some (Sum.inl (d8, x9))
noncomputable def fX8_matrix_125f (o v1 : Int) (s : Dt × Int) : Option ((Dt × Int) ⊕ ((Dt × Int) ⊕ Dt)) := match s with
  | (d, v2) => (if (d o 3) ≤ v2 then up (lv (w32 (v1 + 1)) fun x4 => some (Sum.inl (d, x4))) else ck (0 ≤ v1 ∧ v1 < 9) <| (if (d (o + 1) v1) = 0 then fX8_matrix_182 d o v1 v2 ((o + 200) + v1) v2 0 else ck (0 ≤ v2 ∧ v2 < 9) <| (if (d (o + 1) v2) = 0 then fX8_matrix_182 d o v1 v2 ((o + 200) + v1) v2 0 else (if (d ((o + 190) + v1) v2) ≤ (d ((o + 190) + v2) v1) then fX8_matrix_182 d o v1 v2 ((o + 200) + v1) v2 0 else fX8_matrix_182 d o v1 v2 ((o + 200) + v1) v2 1))))
noncomputable def fX8_matrix_125 (d : Dt) (o v1 v2 : Int) : Option ((Dt × Int) ⊕ Dt) := loop (fX8_matrix_125f o v1) (d, v2)
noncomputable def fX8_matrix_115f (o : Int) (s : Dt × Int) : Option ((Dt × Int) ⊕ Dt) := match s with
  | (d, v1) => (if (d o 3) ≤ v1 then up (some d) else fX8_matrix_125 d o v1 0)
noncomputable def fX8_matrix_115 (d : Dt) (o v1 : Int) : Option Dt := loop (fX8_matrix_115f o) (d, v1)
noncomputable def fX8_matrix_72 (d : Dt) (o v1 v2 v4 s0 s1 : Int) : Option ((Int × Int) ⊕ ((Dt × Int) ⊕ ((Dt × Int) ⊕ Dt))) :=
  lv (w32 (s0 + s1)) fun x29 => lv (w32 (v4 + 1)) fun x30 => some (Sum.inl (x29, x30))
noncomputable def fX8_matrix_33f (d : Dt) (o v1 v2 : Int) (s : Int × Int) : Option ((Int × Int) ⊕ ((Dt × Int) ⊕ ((Dt × Int) ⊕ Dt))) := match s with
  | (v3, v4) => (if (d o 8) ≤ v4 then up (ck (0 ≤ v1 ∧ v1 < 9) <| ck (0 ≤ v2 ∧ v2 < 9) <| sd d ((o + 190) + v1) v2 v3 fun d22 => sd d22 (o + 126) v2 v3 fun d23 => lv (w32 (v2 + 1)) fun x24 => some (Sum.inl (d23, x24))) else ck (0 ≤ v4 ∧ v4 < 60) <| ck (0 ≤ v1 ∧ v1 < 9) <| ck (0 ≤ v2 ∧ v2 < 9) <| (if (fX8_isAbove (d ((o + 3) + v4) v1) (d ((o + 3) + v4) v2)) = 0 then fX8_matrix_72 d o v1 v2 v4 v3 0 else fX8_matrix_72 d o v1 v2 v4 v3 1))
noncomputable def fX8_matrix_33 (d : Dt) (o v1 v2 v3 v4 : Int) : Option ((Dt × Int) ⊕ ((Dt × Int) ⊕ Dt)) := loop (fX8_matrix_33f d o v1 v2) (v3, v4)
noncomputable def fX8_matrix_20f (o v1 : Int) (s : Dt × Int) : Option ((Dt × Int) ⊕ ((Dt × Int) ⊕ Dt)) := match s with
  | (d, v2) => (if (d o 3) ≤ v2 then up (bd (fX8_tell d o) fun d16 => lv (w32 (v1 + 1)) fun x18 => some (Sum.inl (d16, x18))) else fX8_matrix_33 d o v1 v2 0 0)
noncomputable def fX8_matrix_20 (d : Dt) (o v1 v2 : Int) : Option ((Dt × Int) ⊕ Dt) := loop (fX8_matrix_20f o v1) (d, v2)
noncomputable def fX8_matrix_2f (o : Int) (s : Dt × Int) : Option ((Dt × Int) ⊕ Dt) := match s with
  | (d, v1) => (if (d o 3) ≤ v1 then up (fX8_matrix_115 d o 0) else bd (fJ4_fill_3 d (o + 126) 9 0) fun d13 => fX8_matrix_20 d13 o v1 0)
noncomputable def fX8_matrix_2 (d : Dt) (o v1 : Int) : Option Dt := loop (fX8_matrix_2f o) (d, v1)
noncomputable def fX8_matrix (d : Dt) (o : Int) : Option Dt :=
  fX8_matrix_2 d o 0
noncomputable def fX8_isStronger (d : Dt) (o a1 a2 a3 a4 : Int) : Option Int :=
  ck (0 ≤ a1 ∧ a1 < 9) <| ck (0 ≤ a2 ∧ a2 < 9) <| lv (w32 ((d ((o + 190) + a1) a2) - (d ((o + 190) + a2) a1))) fun x3 => ck (0 ≤ a3 ∧ a3 < 9) <| ck (0 ≤ a4 ∧ a4 < 9) <| lv (w32 ((d ((o + 190) + a3) a4) - (d ((o + 190) + a4) a3))) fun x6 => (if x3 = x6 then (if (d ((o + 190) + a1) a2) = (d ((o + 190) + a3) a4) then (if a1 = a3 then lv (d o 1) fun x10 => ck (x10 ≠ 0) <| lv (d o 1) fun x13 => ck (x13 ≠ 0) <| (if (d (x13 + 7) a4) ≤ (d (x10 + 7) a2) then some 0 else some 1) else lv (d o 1) fun x17 => ck (x17 ≠ 0) <| lv (d o 1) fun x20 => ck (x20 ≠ 0) <| (if (d (x20 + 7) a3) ≤ (d (x17 + 7) a1) then some 0 else some 1)) else (if (d ((o + 190) + a1) a2) ≤ (d ((o + 190) + a3) a4) then some 0 else some 1)) else (if x3 ≤ x6 then some 0 else some 1))
noncomputable def fX8_sortPairs_104 (d : Dt) (o v1 v2 v3 : Int) : Option ((Dt × Int) ⊕ ((Dt × Int) ⊕ Dt)) :=
  ck (0 ≤ v3 ∧ v3 < 81) <| sd d (o + 230) v3 v1 fun d12 => sd d12 (o + 231) v3 v2 fun d13 => sd d13 o 40 (w32 ((d13 o 40) + 1)) fun d14 => lv (w32 (v2 + 1)) fun x15 => some (Sum.inl (d14, x15))
noncomputable def fX8_sortPairs_41f (o v1 v2 : Int) (s : Dt × Int) : Option ((Dt × Int) ⊕ ((Dt × Int) ⊕ ((Dt × Int) ⊕ Dt))) := match s with
  | (d, v3) => (if v3 ≤ 0 then up (fX8_sortPairs_104 d o v1 v2 v3) else lv (w32 (v3 - 1)) fun x16 => ck (0 ≤ x16 ∧ x16 < 81) <| lv (w32 (v3 - 1)) fun x18 => ck (0 ≤ x18 ∧ x18 < 81) <| b1 (fX8_isStronger d o v1 v2 (d (o + 230) x16) (d (o + 231) x18)) fun x20 => (if x20 = 0 then up (fX8_sortPairs_104 d o v1 v2 v3) else lv (w32 (v3 - 1)) fun x23 => ck (0 ≤ x23 ∧ x23 < 81) <| ck (0 ≤ v3 ∧ v3 < 81) <| sd d (o + 230) v3 (d (o + 230) x23) fun d26 => lv (w32 (v3 - 1)) fun x27 => ck (0 ≤ x27 ∧ x27 < 81) <| sd d26 (o + 231) v3 (d26 (o + 231) x27) fun d29 => lv (w32 (v3 + (-1))) fun x30 => some (Sum.inl (d29, x30))))
noncomputable def fX8_sortPairs_41 (d : Dt) (o v1 v2 v3 : Int) : Option ((Dt × Int) ⊕ ((Dt × Int) ⊕ Dt)) := loop (fX8_sortPairs_41f o v1 v2) (d, v3)
noncomputable def fX8_sortPairs_17f (o v1 : Int) (s : Dt × Int) : Option ((Dt × Int) ⊕ ((Dt × Int) ⊕ Dt)) := match s with
  | (d, v2) => (if (d o 3) ≤ v2 then up (lv (w32 (v1 + 1)) fun x4 => some (Sum.inl (d, x4))) else ck (0 ≤ v1 ∧ v1 < 9) <| ck (0 ≤ v2 ∧ v2 < 9) <| (if (d ((o + 200) + v1) v2) = 0 then lv (w32 (v2 + 1)) fun x8 => some (Sum.inl (d, x8)) else lv (d o 40) fun x9 => fX8_sortPairs_41 d o v1 v2 x9))
noncomputable def fX8_sortPairs_17 (d : Dt) (o v1 v2 : Int) : Option ((Dt × Int) ⊕ Dt) := loop (fX8_sortPairs_17f o v1) (d, v2)
noncomputable def fX8_sortPairs_7f (o : Int) (s : Dt × Int) : Option ((Dt × Int) ⊕ Dt) := match s with
  | (d, v1) => (if (d o 3) ≤ v1 then up (some d) else fX8_sortPairs_17 d o v1 0)
noncomputable def fX8_sortPairs_7 (d : Dt) (o v1 : Int) : Option Dt := loop (fX8_sortPairs_7f o) (d, v1)
noncomputable def fX8_sortPairs (d : Dt) (o : Int) : Option Dt :=
  sd d o 40 0 fun d1 => fX8_sortPairs_7 d1 o 0
noncomputable def fX8_join_71 (d : Dt) (o a1 a2 v3 v4 s0 s1 s2 s3 : Int) : Option ((Dt × Int) ⊕ ((Dt × Int) ⊕ Dt)) :=
  ck (0 ≤ s1 ∧ s1 < 9) <| sd d s0 s1 ((bOr s2 s3) % 2) fun d9 => lv (w32 (v4 + 1)) fun x10 => some (Sum.inl (d9, x10))
noncomputable def fX8_join_48 (d : Dt) (o a1 a2 v3 v4 s0 s1 s2 : Int) : Option ((Dt × Int) ⊕ ((Dt × Int) ⊕ Dt)) :=
  (if v4 = a2 then fX8_join_71 d o a1 a2 v3 v4 s0 s1 s2 1 else ck (0 ≤ a2 ∧ a2 < 9) <| ck (0 ≤ v4 ∧ v4 < 9) <| (if (d ((o + 210) + a2) v4) = 0 then fX8_join_71 d o a1 a2 v3 v4 s0 s1 s2 0 else fX8_join_71 d o a1 a2 v3 v4 s0 s1 s2 1))
noncomputable def fX8_join_13f (o a1 a2 v3 : Int) (s : Dt × Int) : Option ((Dt × Int) ⊕ ((Dt × Int) ⊕ Dt)) := match s with
  | (d, v4) => (if (d o 3) ≤ v4 then up (lv (w32 (v3 + 1)) fun x3 => some (Sum.inl (d, x3))) else ck (0 ≤ v3 ∧ v3 < 9) <| ck (0 ≤ v4 ∧ v4 < 9) <| (if v3 = a1 then fX8_join_48 d o a1 a2 v3 v4 ((o + 210) + v3) v4 (d ((o + 210) + v3) v4) else ck (0 ≤ a1 ∧ a1 < 9) <| (if (d ((o + 210) + v3) a1) = 0 then fX8_join_71 d o a1 a2 v3 v4 ((o + 210) + v3) v4 (d ((o + 210) + v3) v4) 0 else fX8_join_48 d o a1 a2 v3 v4 ((o + 210) + v3) v4 (d ((o + 210) + v3) v4))))
noncomputable def fX8_join_13 (d : Dt) (o a1 a2 v3 v4 : Int) : Option ((Dt × Int) ⊕ Dt) := loop (fX8_join_13f o a1 a2 v3) (d, v4)
noncomputable def fX8_join_2f (o a1 a2 : Int) (s : Dt × Int) : Option ((Dt × Int) ⊕ Dt) := match s with
  | (d, v3) => (if (d o 3) ≤ v3 then up (some d) else fX8_join_13 d o a1 a2 v3 0)
noncomputable def fX8_join_2 (d : Dt) (o a1 a2 v3 : Int) : Option Dt := loop (fX8_join_2f o a1 a2) (d, v3)
noncomputable def fX8_join (d : Dt) (o a1 a2 : Int) : Option Dt :=
  fX8_join_2 d o a1 a2 0
noncomputable def fX8_keepPairs_32f (o : Int) (s : Dt × Int) : Option ((Dt × Int) ⊕ Dt) := match s with
  | (d, v1) => (if (d o 40) ≤ v1 then up (some d) else ck (0 ≤ v1 ∧ v1 < 81) <| lv (d (o + 230) v1) fun x6 => lv (d (o + 231) v1) fun x7 => ck (0 ≤ x7 ∧ x7 < 9) <| ck (0 ≤ x6 ∧ x6 < 9) <| (if (d ((o + 210) + x7) x6) = 0 then bd (fX8_join d o x6 x7) fun d12 => lv (w32 (v1 + 1)) fun x14 => some (Sum.inl (d12, x14)) else lv (w32 (v1 + 1)) fun x11 => some (Sum.inl (d, x11))))
noncomputable def fX8_keepPairs_32 (d : Dt) (o v1 : Int) : Option Dt := loop (fX8_keepPairs_32f o) (d, v1)
noncomputable def fX8_keepPairs_6f (o : Int) (s : Dt × Int) : Option ((Dt × Int) ⊕ Dt) := match s with
  | (d, v1) => (if (d o 3) ≤ v1 then up (fX8_keepPairs_32 d o 0) else ck (0 ≤ v1 ∧ v1 < 9) <| bd (fJ4_fill d ((o + 210) + v1) 9 0) fun d16 => lv (w32 (v1 + 1)) fun x18 => some (Sum.inl (d16, x18)))
noncomputable def fX8_keepPairs_6 (d : Dt) (o v1 : Int) : Option Dt := loop (fX8_keepPairs_6f o) (d, v1)
noncomputable def fX8_keepPairs (d : Dt) (o : Int) : Option Dt :=
  bd (fX8_sortPairs d o) fun d1 => fX8_keepPairs_6 d1 o 0
noncomputable def fX8_widen_85f (o v1 v2 : Int) (s : Dt × Int) : Option ((Dt × Int) ⊕ ((Dt × Int) ⊕ ((Dt × Int) ⊕ Dt))) := match s with
  | (d, v3) => (if (d o 3) ≤ v3 then up (lv (w32 (v2 + 1)) fun x6 => some (Sum.inl (d, x6))) else ck (0 ≤ v2 ∧ v2 < 9) <| ck (0 ≤ v3 ∧ v3 < 9) <| ck (0 ≤ v1 ∧ v1 < 9) <| sd d ((o + 220) + v2) v3 (fJ9_max (d ((o + 220) + v2) v3) (fJ9_min (d ((o + 220) + v2) v1) (d ((o + 220) + v1) v3))) fun d10 => lv (w32 (v3 + 1)) fun x11 => some (Sum.inl (d10, x11)))
noncomputable def fX8_widen_85 (d : Dt) (o v1 v2 v3 : Int) : Option ((Dt × Int) ⊕ ((Dt × Int) ⊕ Dt)) := loop (fX8_widen_85f o v1 v2) (d, v3)
noncomputable def fX8_widen_75f (o v1 : Int) (s : Dt × Int) : Option ((Dt × Int) ⊕ ((Dt × Int) ⊕ Dt)) := match s with
  | (d, v2) => (if (d o 3) ≤ v2 then up (lv (w32 (v1 + 1)) fun x4 => some (Sum.inl (d, x4))) else fX8_widen_85 d o v1 v2 0)
noncomputable def fX8_widen_75 (d : Dt) (o v1 v2 : Int) : Option ((Dt × Int) ⊕ Dt) := loop (fX8_widen_75f o v1) (d, v2)
noncomputable def fX8_widen_65f (o : Int) (s : Dt × Int) : Option ((Dt × Int) ⊕ Dt) := match s with
  | (d, v1) => (if (d o 3) ≤ v1 then up (some d) else fX8_widen_75 d o v1 0)
noncomputable def fX8_widen_65 (d : Dt) (o v1 : Int) : Option Dt := loop (fX8_widen_65f o) (d, v1)
noncomputable def fX8_widen_50 (d : Dt) (o v1 v2 s0 s1 s2 : Int) : Option ((Dt × Int) ⊕ ((Dt × Int) ⊕ Dt)) :=
  ck (0 ≤ s1 ∧ s1 < 9) <| sd d s0 s1 s2 fun d18 => lv (w32 (v2 + 1)) fun x19 => some (Sum.inl (d18, x19))
noncomputable def fX8_widen_12f (o v1 : Int) (s : Dt × Int) : Option ((Dt × Int) ⊕ ((Dt × Int) ⊕ Dt)) := match s with
  | (d, v2) => (if (d o 3) ≤ v2 then up (lv (w32 (v1 + 1)) fun x13 => some (Sum.inl (d, x13))) else ck (0 ≤ v1 ∧ v1 < 9) <| ck (0 ≤ v2 ∧ v2 < 9) <| (if (d ((o + 200) + v1) v2) = 0 then fX8_widen_50 d o v1 v2 ((o + 220) + v1) v2 0 else fX8_widen_50 d o v1 v2 ((o + 220) + v1) v2 (d ((o + 190) + v1) v2)))
noncomputable def fX8_widen_12 (d : Dt) (o v1 v2 : Int) : Option ((Dt × Int) ⊕ Dt) := loop (fX8_widen_12f o v1) (d, v2)
noncomputable def fX8_widen_2f (o : Int) (s : Dt × Int) : Option ((Dt × Int) ⊕ Dt) := match s with
  | (d, v1) => (if (d o 3) ≤ v1 then up (fX8_widen_65 d o 0) else fX8_widen_12 d o v1 0)
noncomputable def fX8_widen_2 (d : Dt) (o v1 : Int) : Option Dt := loop (fX8_widen_2f o) (d, v1)
noncomputable def fX8_widen (d : Dt) (o : Int) : Option Dt :=
  fX8_widen_2 d o 0
noncomputable def fX8_greatestDefeat_43 (d : Dt) (o a1 v3 s0 s1 : Int) : Option ((Int × Int) ⊕ Int) :=
  lv (fJ9_max s0 s1) fun x4 => lv (w32 (v3 + 1)) fun x5 => some (Sum.inl (x4, x5))
noncomputable def fX8_greatestDefeat_4f (d : Dt) (o a1 : Int) (s : Int × Int) : Option ((Int × Int) ⊕ Int) := match s with
  | (v2, v3) => (if (d o 3) ≤ v3 then up (some v2) else ck (0 ≤ v3 ∧ v3 < 9) <| (if (d (o + 1) v3) = 0 then fX8_greatestDefeat_43 d o a1 v3 v2 0 else ck (0 ≤ a1 ∧ a1 < 9) <| fX8_greatestDefeat_43 d o a1 v3 v2 (w32 ((d ((o + 190) + v3) a1) - (d ((o + 190) + a1) v3)))))
noncomputable def fX8_greatestDefeat_4 (d : Dt) (o a1 v2 v3 : Int) : Option Int := loop (fX8_greatestDefeat_4f d o a1) (v2, v3)
noncomputable def fX8_greatestDefeat (d : Dt) (o a1 : Int) : Option Int :=
  fX8_greatestDefeat_4 d o a1 0 0
noncomputable def fX8_isUnder_39 (d : Dt) (o a1 v4 s0 s1 : Int) : Option ((Int × Int) ⊕ Int) :=
  lv (bOr s0 s1) fun x4 => lv (w32 (v4 + 1)) fun x5 => some (Sum.inl (x4, x5))
noncomputable def fX8_isUnder_5f (d : Dt) (o a1 : Int) (s : Int × Int) : Option ((Int × Int) ⊕ Int) := match s with
  | (v3, v4) => (if (d o 3) ≤ v4 then up ((ck (v3 = 0 ∨ v3 = 1) <| some v3)) else ck (0 ≤ v4 ∧ v4 < 9) <| (if (d (o + 229) v4) = 0 then fX8_isUnder_39 d o a1 v4 v3 0 else ck (0 ≤ a1 ∧ a1 < 9) <| (if (d ((o + 210) + v4) a1) = 0 then fX8_isUnder_39 d o a1 v4 v3 0 else fX8_isUnder_39 d o a1 v4 v3 1)))
noncomputable def fX8_isUnder_5 (d : Dt) (o a1 v3 v4 : Int) : Option Int := loop (fX8_isUnder_5f d o a1) (v3, v4)
noncomputable def fX8_isUnder (d : Dt) (o a1 : Int) : Option Int :=
  fX8_isUnder_5 d o a1 0 0
noncomputable def fX8_isBehind_46 (d : Dt) (o a1 v3 s0 s1 : Int) : Option ((Int × Int) ⊕ Int) :=
  lv (bOr s0 s1) fun x4 => lv (w32 (v3 + 1)) fun x5 => some (Sum.inl (x4, x5))
noncomputable def fX8_isBehind_4f (d : Dt) (o a1 : Int) (s : Int × Int) : Option ((Int × Int) ⊕ Int) := match s with
  | (v2, v3) => (if (d o 3) ≤ v3 then up ((ck (v2 = 0 ∨ v2 = 1) <| some v2)) else ck (0 ≤ v3 ∧ v3 < 9) <| (if (d (o + 229) v3) = 0 then fX8_isBehind_46 d o a1 v3 v2 0 else ck (0 ≤ a1 ∧ a1 < 9) <| (if (d ((o + 220) + v3) a1) ≤ (d ((o + 220) + a1) v3) then fX8_isBehind_46 d o a1 v3 v2 0 else fX8_isBehind_46 d o a1 v3 v2 1)))
noncomputable def fX8_isBehind_4 (d : Dt) (o a1 v2 v3 : Int) : Option Int := loop (fX8_isBehind_4f d o a1) (v2, v3)
noncomputable def fX8_isBehind (d : Dt) (o a1 : Int) : Option Int :=
  fX8_isBehind_4 d o a1 0 0
noncomputable def fX8_covers_61 (d : Dt) (o a1 a2 v4 s0 s1 : Int) : Option ((Int × Int) ⊕ Int) :=
  lv (bAnd s0 s1) fun x7 => lv (w32 (v4 + 1)) fun x8 => some (Sum.inl (x7, x8))
noncomputable def fX8_covers_12f (d : Dt) (o a1 a2 : Int) (s : Int × Int) : Option ((Int × Int) ⊕ Int) := match s with
  | (v3, v4) => (if (d o 3) ≤ v4 then up ((ck (v3 = 0 ∨ v3 = 1) <| some v3)) else ck (0 ≤ v4 ∧ v4 < 9) <| (if (d (o + 229) v4) = 0 then fX8_covers_61 d o a1 a2 v4 v3 1 else ck (0 ≤ a2 ∧ a2 < 9) <| (if (d ((o + 200) + a2) v4) = 0 then fX8_covers_61 d o a1 a2 v4 v3 1 else ck (0 ≤ a1 ∧ a1 < 9) <| (if (d ((o + 200) + a1) v4) = 0 then fX8_covers_61 d o a1 a2 v4 v3 0 else fX8_covers_61 d o a1 a2 v4 v3 1))))
noncomputable def fX8_covers_12 (d : Dt) (o a1 a2 v3 v4 : Int) : Option Int := loop (fX8_covers_12f d o a1 a2) (v3, v4)
noncomputable def fX8_covers (d : Dt) (o a1 a2 : Int) : Option Int :=
  ck (0 ≤ a1 ∧ a1 < 9) <| ck (0 ≤ a2 ∧ a2 < 9) <| lv (d ((o + 200) + a1) a2) fun x3 => fX8_covers_12 d o a1 a2 x3 0
noncomputable def fX8_isCovered_36 (d : Dt) (o a1 v3 s0 s1 : Int) : Option ((Int × Int) ⊕ Int) :=
  lv (bOr s0 s1) fun x4 => lv (w32 (v3 + 1)) fun x5 => some (Sum.inl (x4, x5))
noncomputable def fX8_isCovered_4f (d : Dt) (o a1 : Int) (s : Int × Int) : Option ((Int × Int) ⊕ Int) := match s with
  | (v2, v3) => (if (d o 3) ≤ v3 then up ((ck (v2 = 0 ∨ v2 = 1) <| some v2)) else ck (0 ≤ v3 ∧ v3 < 9) <| (if (d (o + 229) v3) = 0 then fX8_isCovered_36 d o a1 v3 v2 0 else b1 (fX8_covers d o v3 a1) fun x6 => (if x6 = 0 then fX8_isCovered_36 d o a1 v3 v2 0 else fX8_isCovered_36 d o a1 v3 v2 1)))
noncomputable def fX8_isCovered_4 (d : Dt) (o a1 v2 v3 : Int) : Option Int := loop (fX8_isCovered_4f d o a1) (v2, v3)
noncomputable def fX8_isCovered (d : Dt) (o a1 : Int) : Option Int :=
  fX8_isCovered_4 d o a1 0 0
noncomputable def fX8_score_62 (d : Dt) (o a1 v3 s0 s1 : Int) : Option ((Int × Int) ⊕ Int) :=
  lv (w32 (s0 + s1)) fun x6 => lv (w32 (v3 + 1)) fun x7 => some (Sum.inl (x6, x7))
noncomputable def fX8_score_37 (d : Dt) (o a1 v3 s0 : Int) : Option ((Int × Int) ⊕ Int) :=
  ck (0 ≤ v3 ∧ v3 < 9) <| (if (d (o + 229) v3) = 0 then fX8_score_62 d o a1 v3 s0 0 else ck (0 ≤ a1 ∧ a1 < 9) <| (if (d ((o + 200) + v3) a1) = 0 then fX8_score_62 d o a1 v3 s0 0 else fX8_score_62 d o a1 v3 s0 (-1)))
noncomputable def fX8_score_4f (d : Dt) (o a1 : Int) (s : Int × Int) : Option ((Int × Int) ⊕ Int) := match s with
  | (v2, v3) => (if (d o 3) ≤ v3 then up (some v2) else ck (0 ≤ v3 ∧ v3 < 9) <| (if (d (o + 229) v3) = 0 then fX8_score_37 d o a1 v3 v2 else ck (0 ≤ a1 ∧ a1 < 9) <| (if (d ((o + 200) + a1) v3) = 0 then fX8_score_37 d o a1 v3 v2 else fX8_score_62 d o a1 v3 v2 1)))
noncomputable def fX8_score_4 (d : Dt) (o a1 v2 v3 : Int) : Option Int := loop (fX8_score_4f d o a1) (v2, v3)
noncomputable def fX8_score (d : Dt) (o a1 : Int) : Option Int :=
  fX8_score_4 d o a1 0 0
noncomputable def fX8_worthOf (d : Dt) (o a1 : Int) : Option Int :=
  lv (d o 0) fun x1 => ck (x1 ≠ 0) <| lv (d x1 2) fun x4 => (if x4 = 7 then b1 (fX8_greatestDefeat d o a1) fun x6 => some (w32 (-x6)) else (if x4 = 8 then b1 (fX8_isUnder d o a1) fun x9 => (if x9 = 0 then some 0 else some (-1)) else (if x4 = 9 then b1 (fX8_isBehind d o a1) fun x13 => (if x13 = 0 then some 0 else some (-1)) else b1 (fX8_isCovered d o a1) fun x16 => (if x16 = 0 then b1 (fX8_score d o a1) fun x19 => some x19 else some (-1000)))))
noncomputable def fX8_byOrder_110 (d : Dt) (o v3 v4 v5 : Int) : Option ((Int × Int × Int) ⊕ ((Dt) ⊕ Dt)) :=
  lv (w32 (v3 + 1)) fun x22 => some (Sum.inl (v4, v5, x22))
noncomputable def fX8_byOrder_87 (d : Dt) (o v1 v2 v3 v4 s0 : Int) : Option ((Int × Int × Int) ⊕ ((Dt) ⊕ Dt)) :=
  ck (0 ≤ v4 ∧ v4 < 9) <| (if (d (o + 229) v4) = 0 then lv (w32 (v3 + 1)) fun x20 => some (Sum.inl (v1, v2, x20)) else (if v1 = (-1) then fX8_byOrder_110 d o v3 v4 s0 else (if s0 ≤ v2 then lv (w32 (v3 + 1)) fun x24 => some (Sum.inl (v1, v2, x24)) else fX8_byOrder_110 d o v3 v4 s0)))
noncomputable def fX8_byOrder_48f (d : Dt) (o : Int) (s : Int × Int × Int) : Option ((Int × Int × Int) ⊕ ((Dt) ⊕ Dt)) := match s with
  | (v1, v2, v3) => (if (d o 3) ≤ v3 then up (ck (0 ≤ v1 ∧ v1 < 9) <| sd d (o + 229) v1 (0 % 2) fun d8 => bd (fX8_elect d8 o v1) fun d9 => some (Sum.inl d9)) else lv (d o 1) fun x11 => ck (x11 ≠ 0) <| ck (0 ≤ v3 ∧ v3 < 9) <| lv (d (x11 + 6) v3) fun x15 => ck (0 ≤ x15 ∧ x15 < 9) <| (if (d (o + 229) x15) = 0 then fX8_byOrder_87 d o v1 v2 v3 x15 0 else b1 (fX8_worthOf d o x15) fun x25 => fX8_byOrder_87 d o v1 v2 v3 x15 x25))
noncomputable def fX8_byOrder_48 (d : Dt) (o v1 v2 v3 : Int) : Option ((Dt) ⊕ Dt) := loop (fX8_byOrder_48f d o) (v1, v2, v3)
noncomputable def fX8_byOrder_28f (o : Int) (s : Dt) : Option ((Dt) ⊕ Dt) := (fun d => lv (d o 0) fun x2 => ck (x2 ≠ 0) <| (if (d x2 1) ≤ (d o 19) then up (some d) else fX8_byOrder_48 d o (-1) 0 0)) s
noncomputable def fX8_byOrder_28 (d : Dt) (o : Int) : Option Dt := loop (fX8_byOrder_28f o) d
noncomputable def fX8_byOrder_2f (o : Int) (s : Dt × Int) : Option ((Dt × Int) ⊕ Dt) := match s with
  | (d, v1) => (if (d o 3) ≤ v1 then up (fX8_byOrder_28 d o) else ck (0 ≤ v1 ∧ v1 < 9) <| sd d (o + 229) v1 ((d (o + 1) v1) % 2) fun d28 => lv (w32 (v1 + 1)) fun x29 => some (Sum.inl (d28, x29)))
noncomputable def fX8_byOrder_2 (d : Dt) (o v1 : Int) : Option Dt := loop (fX8_byOrder_2f o) (d, v1)
noncomputable def fX8_byOrder (d : Dt) (o : Int) : Option Dt :=
  fX8_byOrder_2 d o 0
noncomputable def fX8_byPairs_39 (d : Dt) (o : Int) : Option Dt :=
  bd (fX8_byOrder d o) fun d11 => some d11
noncomputable def fX8_byPairs (d : Dt) (o : Int) : Option Dt :=
  bd (fX8_matrix d o) fun d1 => lv (d1 o 0) fun x3 => ck (x3 ≠ 0) <| (if (d1 x3 2) = 8 then bd (fX8_keepPairs d1 o) fun d15 => fX8_byPairs_39 d15 o else lv (d1 o 0) fun x7 => ck (x7 ≠ 0) <| (if (d1 x7 2) = 9 then bd (fX8_widen d1 o) fun d13 => fX8_byPairs_39 d13 o else fX8_byPairs_39 d1 o))
noncomputable def fX8_run_140 (d : Dt) (o : Int) : Option Dt :=
  bd (fX8_bySums d o) fun d14 => some d14
noncomputable def fX8_run_175 (d : Dt) (o : Int) : Option Dt :=
  bd (fX8_byPairs d o) fun d27 => some d27
noncomputable def fX8_run_168 (d : Dt) (o : Int) : Option Dt :=
  bd (fX8_byTransfers d o) fun d36 => some d36
noncomputable def fX8_run_33f (o : Int) (s : Dt × Int) : Option ((Dt × Int) ⊕ Dt) := match s with
  | (d, v1) => (if (d o 3) ≤ v1 then up (some d) else ck (0 ≤ v1 ∧ v1 < 9) <| (if (d (o + 1) v1) = 0 then lv (w32 (v1 + 1)) fun x42 => some (Sum.inl (d, x42)) else bd (fX8_elect d o v1) fun d43 => lv (w32 (v1 + 1)) fun x45 => some (Sum.inl (d43, x45))))
noncomputable def fX8_run_33 (d : Dt) (o v1 : Int) : Option Dt := loop (fX8_run_33f o) (d, v1)
noncomputable def fX8_run (d : Dt) (o : Int) : Option Dt :=
  lv (d o 0) fun x1 => ck (x1 ≠ 0) <| (if (d x1 2) = 14 then bd (fX8_byLists d o) fun d46 => some d46 else lv (d o 0) fun x5 => ck (x5 ≠ 0) <| (if (d x5 1) < (d o 5) then lv (d o 0) fun x9 => ck (x9 ≠ 0) <| lv (d x9 2) fun x12 => (if x12 = 0 then fX8_run_140 d o else (if x12 = 1 then fX8_run_140 d o else (if x12 = 2 then fX8_run_140 d o else (if x12 = 3 then fX8_run_140 d o else (if x12 = 4 then bd (fX8_byMedians d o) fun d20 => some d20 else (if x12 = 5 then fX8_run_140 d o else (if x12 = 6 then bd (fX8_byLeaving d o) fun d24 => some d24 else (if x12 = 7 then fX8_run_175 d o else (if x12 = 8 then fX8_run_175 d o else (if x12 = 9 then fX8_run_175 d o else (if x12 = 10 then fX8_run_175 d o else (if x12 = 11 then bd (fX8_byKeeping d o) fun d33 => some d33 else (if x12 = 12 then fX8_run_168 d o else (if x12 = 13 then fX8_run_168 d o else fX8_run_175 d o)))))))))))))) else fX8_run_33 d o 0))
noncomputable def fX0_countOne_100 (d : Dt) (a1 a2 a3 v4 v5 v6 s0 s1 : Int) : Option ((Dt × Int) ⊕ ((Dt × Int) ⊕ Dt)) :=
  ck (0 ≤ v6 ∧ v6 < 60) <| b1 (fX0_fieldOf d a2 (d (v5 + 1) v6)) fun x21 => bd (fX8_add d s0 s1 x21) fun d23 => lv (w32 (v6 + 1)) fun x25 => some (Sum.inl (d23, x25))
noncomputable def fX0_countOne_42f (a1 a2 a3 v4 v5 : Int) (s : Dt × Int) : Option ((Dt × Int) ⊕ ((Dt × Int) ⊕ Dt)) := match s with
  | (d, v6) => (if (d v5 3) ≤ v6 then up (lv (w32 (v4 + 1)) fun x13 => some (Sum.inl (d, x13))) else (if (d v5 5) = 0 then ck (0 ≤ v6 ∧ v6 < 60) <| (if (bAnd (bShr (d (v5 + 1) v6) a2) 1) = 1 then (if a3 = 0 then fX0_countOne_100 d a1 a2 a3 v4 v5 v6 a1 ((v5 + 64) + v6) else fX0_countOne_100 d a1 a2 a3 v4 v5 v6 a1 ((v5 + 3) + v6)) else lv (w32 (v6 + 1)) fun x18 => some (Sum.inl (d, x18))) else up (lv (w32 (v4 + 1)) fun x15 => some (Sum.inl (d, x15)))))
noncomputable def fX0_countOne_42 (d : Dt) (a1 a2 a3 v4 v5 v6 : Int) : Option ((Dt × Int) ⊕ Dt) := loop (fX0_countOne_42f a1 a2 a3 v4 v5) (d, v6)
noncomputable def fX0_countOne_23f (a1 a2 a3 : Int) (s : Dt × Int) : Option ((Dt × Int) ⊕ Dt) := match s with
  | (d, v4) => (if 6 < v4 then up (bd (fX8_run d a1) fun d8 => some d8) else ck (0 ≤ v4 ∧ v4 < 7) <| lv (677 + 124 * v4) fun x11 => fX0_countOne_42 d a1 a2 a3 v4 x11 0)
noncomputable def fX0_countOne_23 (d : Dt) (a1 a2 a3 v4 : Int) : Option Dt := loop (fX0_countOne_23f a1 a2 a3) (d, v4)
noncomputable def fX0_countOne (d : Dt) (a1 a2 a3 : Int) : Option Dt :=
  lv (d 1 7) fun x1 => ck (x1 ≠ 0) <| ck (0 ≤ a2 ∧ a2 < 6) <| bd (fX8_begin d a1 ((x1 + 13) + a2) (629 + 8 * a2) a2) fun d5 => fX0_countOne_23 d5 a1 a2 a3 0
noncomputable def fX8_addFirst (d : Dt) (o a1 a2 : Int) : Option Dt :=
  sd d o 51 (w32 ((d o 51) + 1)) fun d1 => ck (0 ≤ a1 ∧ a1 < 60) <| sd d1 (o + 240) a1 (1 % 2) fun d3 => (if a2 = (-1) then some d3 else ck (0 ≤ a2 ∧ a2 < 8) <| sd d3 (o + 239) a2 (w32 ((d3 (o + 239) a2) + 1)) fun d6 => some d6)
noncomputable def fX0_countFirsts_47f (a1 v2 : Int) (s : Dt × Int) : Option ((Dt × Int) ⊕ ((Dt × Int) ⊕ Dt)) := match s with
  | (d, v3) => (if (d 321 19) ≤ v3 then up (lv (w32 (v2 + 1)) fun x16 => some (Sum.inl (d, x16))) else ck (0 ≤ v3 ∧ v3 < 9) <| lv (d 491 v3) fun x18 => ck (0 ≤ v2 ∧ v2 < 6) <| ck (0 ≤ x18 ∧ x18 < 9) <| bd (fX8_addFirst d 79 (d ((629 + 8 * v2) + 2) x18) (d ((629 + 8 * v2) + 3) x18)) fun d21 => lv (w32 (v3 + 1)) fun x23 => some (Sum.inl (d21, x23)))
noncomputable def fX0_countFirsts_47 (d : Dt) (a1 v2 v3 : Int) : Option ((Dt × Int) ⊕ Dt) := loop (fX0_countFirsts_47f a1 v2) (d, v3)
noncomputable def fX0_countFirsts_9f (a1 : Int) (s : Dt × Int) : Option ((Dt × Int) ⊕ Dt) := match s with
  | (d, v2) => lv (d 1 7) fun x3 => ck (x3 ≠ 0) <| (if (d x3 14) ≤ v2 then up (some d) else lv (d 1 7) fun x7 => ck (x7 ≠ 0) <| ck (0 ≤ v2 ∧ v2 < 6) <| (if (d ((x7 + 13) + v2) 2) = 0 then bd (fX0_countOne d 321 v2 a1) fun d13 => fX0_countFirsts_47 d13 a1 v2 0 else lv (w32 (v2 + 1)) fun x12 => some (Sum.inl (d, x12))))
noncomputable def fX0_countFirsts_9 (d : Dt) (a1 v2 : Int) : Option Dt := loop (fX0_countFirsts_9f a1) (d, v2)
noncomputable def fX0_countFirsts (d : Dt) (a1 : Int) : Option Dt :=
  bd (fX8_beginFirsts d 79) fun d1 => fX0_countFirsts_9 d1 a1 0
noncomputable def fX0_count_77 (d : Dt) (a1 a2 s2 s3 : Int) : Option (Dt × Int) :=
  bd (fX0_countOne d 79 s2 s3) fun d14 => sd d14 1 37 1 fun d16 => some (d16, (d16 79 19))
noncomputable def fX0_count_61 (d : Dt) (a1 a2 : Int) : Option (Dt × Int) :=
  (if a2 = 1 then fX0_count_77 d a1 a2 a1 1 else fX0_count_77 d a1 a2 a1 0)
noncomputable def fX0_count_58 (d : Dt) (a1 a2 s1 : Int) : Option (Dt × Int) :=
  bd (fX0_countFirsts d s1) fun d18 => fX0_count_61 d18 a1 a2
noncomputable def fX0_count (d : Dt) (a1 a2 : Int) : Option (Dt × Int) :=
  b1 (fX0_isContest d a1) fun x1 => (if x1 = 0 then some (d, (-1)) else (if (fX0_within a2 0 1) = 0 then some (d, (-2)) else b1 (fX0_isReady d) fun x5 => (if x5 = 0 then some (d, (-3)) else lv (d 1 7) fun x8 => ck (x8 ≠ 0) <| ck (0 ≤ a1 ∧ a1 < 6) <| (if (d ((x8 + 13) + a1) 7) = 0 then fX0_count_61 d a1 a2 else (if a2 = 1 then fX0_count_58 d a1 a2 1 else fX0_count_58 d a1 a2 0)))))
noncomputable def fX11_areClosed_34f (d : Dt) (s : Int × Int) : Option ((Int × Int) ⊕ Int) := match s with
  | (v1, v2) => (if (d 1545 79) ≤ v2 then up ((ck (v1 = 0 ∨ v1 = 1) <| some v1)) else ck (0 ≤ v2 ∧ v2 < 7) <| lv (bAnd v1 (d 1615 v2)) fun x4 => lv (w32 (v2 + 1)) fun x5 => some (Sum.inl (x4, x5)))
noncomputable def fX11_areClosed_34 (d : Dt) (v1 v2 : Int) : Option Int := loop (fX11_areClosed_34f d) (v1, v2)
noncomputable def fX11_areClosed (d : Dt) : Option Int :=
  (if (d 1545 64) = 0 then fX11_areClosed_34 d 0 0 else b1 (fX11_lawIs d 8) fun x6 => (if x6 = 0 then fX11_areClosed_34 d 1 0 else (if (d 1615 6) = 0 then fX11_areClosed_34 d 0 0 else fX11_areClosed_34 d 1 0)))
noncomputable def fX11_rank_23f (d : Dt) (a1 v2 : Int) (s : Int × Int × Int) : Option ((Int × Int × Int) ⊕ ((Dt × Int) ⊕ Dt)) := match s with
  | (v3, v4, v5) => (if (d 1545 98) ≤ v5 then up ((if v4 ≤ 1 then (if v4 = 1 then ck (0 ≤ a1 ∧ a1 < 200) <| lv (w32 ((w32 (9 * a1)) + (d 1620 a1))) fun x9 => ck (0 ≤ x9 ∧ x9 < 1800) <| sd d 1619 x9 v3 fun d11 => sd d11 1620 a1 (w32 ((d11 1620 a1) + 1)) fun d12 => lv (w32 (v2 + 1)) fun x13 => some (Sum.inl (d12, x13)) else lv (w32 (v2 + 1)) fun x7 => some (Sum.inl (d, x7))) else up (some d))) else lv (w32 ((w32 (9 * a1)) + v5)) fun x14 => ck (0 ≤ x14 ∧ x14 < 1800) <| (if (d 1618 x14) = v2 then lv (w32 (v4 + 1)) fun x18 => lv (w32 (v5 + 1)) fun x19 => some (Sum.inl (v5, x18, x19)) else lv (w32 (v5 + 1)) fun x17 => some (Sum.inl (v3, v4, x17))))
noncomputable def fX11_rank_23 (d : Dt) (a1 v2 v3 v4 v5 : Int) : Option ((Dt × Int) ⊕ Dt) := loop (fX11_rank_23f d a1 v2) (v3, v4, v5)
noncomputable def fX11_rank_9f (a1 : Int) (s : Dt × Int) : Option ((Dt × Int) ⊕ Dt) := match s with
  | (d, v2) => (if 9 < v2 then up (some d) else fX11_rank_23 d a1 v2 (-1) 0 0)
noncomputable def fX11_rank_9 (d : Dt) (a1 v2 : Int) : Option Dt := loop (fX11_rank_9f a1) (d, v2)
noncomputable def fX11_rank (d : Dt) (a1 : Int) : Option Dt :=
  ck (0 ≤ a1 ∧ a1 < 200) <| sd d 1620 a1 0 fun d2 => fX11_rank_9 d2 a1 1
noncomputable def fX11_partyOf (d : Dt) (a1 : Int) : Option Int :=
  lv (w32 ((w32 (9 * (d 1545 97))) + a1)) fun x1 => ck (0 ≤ x1 ∧ x1 < 54) <| lv (d 1590 x1) fun x3 => ck (0 ≤ x3 ∧ x3 < 54) <| some (d 1584 x3)
noncomputable def fX11_areOneList (d : Dt) (a1 a2 : Int) : Option Int :=
  (if a1 = a2 then some 1 else b1 (fX11_partyOf d a1) fun x2 => (if x2 < 0 then some 0 else b1 (fX11_partyOf d a1) fun x5 => b1 (fX11_partyOf d a2) fun x7 => (if x5 = x7 then some 1 else some 0)))
noncomputable def fX11_isBad_109 (d : Dt) (a1 a2 : Int) : Option Int :=
  lv (d 1545 102) fun x11 => ck (0 ≤ x11 ∧ x11 < 200) <| (if (d 1620 x11) = 0 then some 1 else some 0)
noncomputable def fX11_isBad_132f (d : Dt) (a1 a2 : Int) (s : Int × Int) : Option ((Int × Int) ⊕ Int) := match s with
  | (v3, v4) => (if (d 1545 98) ≤ v4 then up (some 0) else lv (w32 (a1 + v4)) fun x24 => ck (0 ≤ x24 ∧ x24 < 1800) <| (if (d 1618 x24) = 0 then lv (w32 (v4 + 1)) fun x33 => some (Sum.inl (v3, x33)) else (if v3 < 0 then lv (w32 (v4 + 1)) fun x28 => some (Sum.inl (v4, x28)) else b1 (fX11_areOneList d v3 v4) fun x29 => (if x29 = 0 then up (some 1) else lv (w32 (v4 + 1)) fun x32 => some (Sum.inl (v4, x32))))))
noncomputable def fX11_isBad_132 (d : Dt) (a1 a2 v3 v4 : Int) : Option Int := loop (fX11_isBad_132f d a1 a2) (v3, v4)
noncomputable def fX11_isBad (d : Dt) (a1 a2 : Int) : Option Int :=
  b1 (fX11_contestIs d (d 1545 97) 2) fun x1 => (if x1 = 0 then (if a2 ≤ 1 then some 0 else some 1) else (if x1 = 1 then (if a2 ≤ (d 1545 100) then some 0 else some 1) else (if x1 = 2 then some 0 else (if x1 = 3 then some 0 else (if x1 = 4 then some 0 else (if x1 = 5 then fX11_isBad_109 d a1 a2 else (if x1 = 6 then fX11_isBad_109 d a1 a2 else (if x1 = 7 then some 0 else (if x1 = 8 then some 0 else (if x1 = 9 then some 0 else (if x1 = 10 then some 0 else (if x1 = 11 then fX11_isBad_109 d a1 a2 else (if x1 = 12 then fX11_isBad_109 d a1 a2 else (if x1 = 13 then fX11_isBad_109 d a1 a2 else (if x1 = 14 then fX11_isBad_132 d a1 a2 (-1) 0 else some 0)))))))))))))))
noncomputable def fX11_lay_71 (d : Dt) (a1 a2 v3 v5 s0 s1 : Int) : Option ((Dt × Int × Int) ⊕ Dt) :=
  lv (w32 (s0 + s1)) fun x19 => lv (w32 (v5 + 1)) fun x20 => some (Sum.inl (d, x19, x20))
noncomputable def fX11_lay_51 (d : Dt) (a1 a2 v3 v4 v5 s1 s2 : Int) : Option ((Dt × Int × Int) ⊕ Dt) :=
  ck (0 ≤ s1 ∧ s1 < 1800) <| sd d 1618 s1 s2 fun d15 => lv (w32 (v3 + v5)) fun x16 => ck (0 ≤ x16 ∧ x16 < 1800) <| (if (d15 1618 x16) ≤ 0 then fX11_lay_71 d15 a1 a2 v3 v5 v4 0 else fX11_lay_71 d15 a1 a2 v3 v5 v4 1)
noncomputable def fX11_lay_14f (a1 a2 v3 : Int) (s : Dt × Int × Int) : Option ((Dt × Int × Int) ⊕ Dt) := match s with
  | (d, v4, v5) => (if (d 1545 98) ≤ v5 then up (bd (fX11_rank d (d 1545 102)) fun d3 => (if v4 = 0 then sd d3 1545 103 (w32 ((d3 1545 103) + 1)) fun d11 => some d11 else b1 (fX11_isBad d3 v3 v4) fun x6 => (if x6 = 0 then sd d3 1545 102 (w32 ((d3 1545 102) + 1)) fun d9 => some d9 else sd d3 1545 104 (w32 ((d3 1545 104) + 1)) fun d10 => some d10))) else ck (0 ≤ v5 ∧ v5 < 9) <| (if (d 1617 v5) = 0 then fX11_lay_51 d a1 a2 v3 v4 v5 (w32 (v3 + v5)) 0 else lv (w32 (a2 + v5)) fun x21 => ck (0 ≤ x21 ∧ x21 < 10800) <| fX11_lay_51 d a1 a2 v3 v4 v5 (w32 (v3 + v5)) (d a1 x21)))
noncomputable def fX11_lay_14 (d : Dt) (a1 a2 v3 v4 v5 : Int) : Option Dt := loop (fX11_lay_14f a1 a2 v3) (d, v4, v5)
noncomputable def fX11_lay (d : Dt) (a1 a2 : Int) : Option Dt :=
  lv (w32 (9 * (d 1545 102))) fun x1 => fX11_lay_14 d a1 a2 x1 0 0
noncomputable def fX11_gather_174 (d : Dt) (a1 a2 v3 v4 v5 s1 : Int) : Option ((Dt × Int) ⊕ ((Dt × Int) ⊕ Dt)) :=
  ck (0 ≤ v5 ∧ v5 < 200) <| b1 (fX11_marksOf d (bAnd (d 1608 v5) (w32 ((bShl 1 a1) - 1)))) fun x27 => bd (fX11_lay d s1 (w32 ((w32 (54 * v5)) + x27))) fun d29 => lv (w32 (v4 + 1)) fun x31 => some (Sum.inl (d29, x31))
noncomputable def fX11_gather_106f (a1 a2 v3 : Int) (s : Dt × Int) : Option ((Dt × Int) ⊕ ((Dt × Int) ⊕ Dt)) := match s with
  | (d, v4) => ck (0 ≤ v3 ∧ v3 < 7) <| (if (d 1613 v3) ≤ v4 then up (lv (w32 (v3 + 1)) fun x17 => some (Sum.inl (d, x17))) else (if (d 1616 v3) = 0 then lv (w32 ((w32 (200 * v3)) + v4)) fun x20 => ck (0 ≤ x20 ∧ x20 < 1400) <| lv (d 1614 x20) fun x22 => ck (0 ≤ x22 ∧ x22 < 200) <| (if (bAnd (bShr (d 1608 x22) a1) 1) = 0 then lv (w32 (v4 + 1)) fun x32 => some (Sum.inl (d, x32)) else (if a2 = 0 then fX11_gather_174 d a1 a2 v3 v4 x22 1611 else fX11_gather_174 d a1 a2 v3 v4 x22 1610)) else up (lv (w32 (v3 + 1)) fun x19 => some (Sum.inl (d, x19)))))
noncomputable def fX11_gather_106 (d : Dt) (a1 a2 v3 v4 : Int) : Option ((Dt × Int) ⊕ Dt) := loop (fX11_gather_106f a1 a2 v3) (d, v4)
noncomputable def fX11_gather_97f (a1 a2 : Int) (s : Dt × Int) : Option ((Dt × Int) ⊕ Dt) := match s with
  | (d, v3) => (if 7 ≤ v3 then up (some d) else fX11_gather_106 d a1 a2 v3 0)
noncomputable def fX11_gather_97 (d : Dt) (a1 a2 v3 : Int) : Option Dt := loop (fX11_gather_97f a1 a2) (d, v3)
noncomputable def fX11_gather_73 (d : Dt) (a1 a2 v3 s1 s2 : Int) : Option ((Dt × Int) ⊕ Dt) :=
  ck (0 ≤ s1 ∧ s1 < 9) <| sd d 1617 s1 (s2 % 2) fun d37 => lv (w32 (v3 + 1)) fun x38 => some (Sum.inl (d37, x38))
noncomputable def fX11_gather_41f (a1 a2 : Int) (s : Dt × Int) : Option ((Dt × Int) ⊕ Dt) := match s with
  | (d, v3) => (if (d 1545 98) ≤ v3 then up (sd d 1545 102 0 fun d11 => sd d11 1545 103 0 fun d12 => sd d12 1545 104 0 fun d13 => fX11_gather_97 d13 a1 a2 0) else lv (w32 ((w32 (9 * a1)) + v3)) fun x33 => ck (0 ≤ x33 ∧ x33 < 54) <| (if (d 1591 x33) = 0 then fX11_gather_73 d a1 a2 v3 v3 1 else fX11_gather_73 d a1 a2 v3 v3 0))
noncomputable def fX11_gather_41 (d : Dt) (a1 a2 v3 : Int) : Option Dt := loop (fX11_gather_41f a1 a2) (d, v3)
noncomputable def fX11_gather (d : Dt) (a1 a2 : Int) : Option Dt :=
  sd d 1545 97 a1 fun d1 => ck (0 ≤ a1 ∧ a1 < 6) <| sd d1 1545 98 (d1 1589 a1) fun d3 => b1 (fX11_contestIs d3 a1 1) fun x4 => sd d3 1545 100 x4 fun d6 => b1 (fX11_struckOf d6 a1) fun x7 => sd d6 1545 99 (w32 ((d6 1545 98) - x7)) fun d9 => fX11_gather_41 d9 a1 a2 0
noncomputable def fX11_noVotes_2f (s : Dt × Int) : Option ((Dt × Int) ⊕ Dt) := match s with
  | (d, v1) => (if 9 ≤ v1 then up (some d) else ck (0 ≤ v1 ∧ v1 < 9) <| sd d 1621 v1 0 fun d3 => lv (w32 (v1 + 1)) fun x4 => some (Sum.inl (d3, x4)))
noncomputable def fX11_noVotes_2 (d : Dt) (v1 : Int) : Option Dt := loop (fX11_noVotes_2f) (d, v1)
noncomputable def fX11_noVotes (d : Dt) : Option Dt :=
  fX11_noVotes_2 d 0
noncomputable def fX11_votesByMarks_70 (d : Dt) (a1 v2 v3 s1 s2 s3 : Int) : Option ((Dt × Int) ⊕ ((Dt × Int) ⊕ Dt)) :=
  ck (0 ≤ s1 ∧ s1 < 9) <| sd d 1621 s1 (w64 (s2 + s3)) fun d12 => lv (w32 (v3 + 1)) fun x13 => some (Sum.inl (d12, x13))
noncomputable def fX11_votesByMarks_16f (a1 v2 : Int) (s : Dt × Int) : Option ((Dt × Int) ⊕ ((Dt × Int) ⊕ Dt)) := match s with
  | (d, v3) => (if (d 1545 98) ≤ v3 then up (lv (w32 (v2 + 1)) fun x5 => some (Sum.inl (d, x5))) else ck (0 ≤ v3 ∧ v3 < 9) <| (if a1 = 3 then lv (w32 ((w32 (9 * v2)) + v3)) fun x14 => ck (0 ≤ x14 ∧ x14 < 1800) <| fX11_votesByMarks_70 d a1 v2 v3 v3 (d 1621 v3) (d 1618 x14) else lv (w32 ((w32 (9 * v2)) + v3)) fun x8 => ck (0 ≤ x8 ∧ x8 < 1800) <| (if (d 1618 x8) ≤ 0 then fX11_votesByMarks_70 d a1 v2 v3 v3 (d 1621 v3) 0 else fX11_votesByMarks_70 d a1 v2 v3 v3 (d 1621 v3) 1)))
noncomputable def fX11_votesByMarks_16 (d : Dt) (a1 v2 v3 : Int) : Option ((Dt × Int) ⊕ Dt) := loop (fX11_votesByMarks_16f a1 v2) (d, v3)
noncomputable def fX11_votesByMarks_6f (a1 : Int) (s : Dt × Int) : Option ((Dt × Int) ⊕ Dt) := match s with
  | (d, v2) => (if (d 1545 102) ≤ v2 then up (some d) else fX11_votesByMarks_16 d a1 v2 0)
noncomputable def fX11_votesByMarks_6 (d : Dt) (a1 v2 : Int) : Option Dt := loop (fX11_votesByMarks_6f a1) (d, v2)
noncomputable def fX11_votesByMarks (d : Dt) (a1 : Int) : Option Dt :=
  bd (fX11_noVotes d) fun d1 => fX11_votesByMarks_6 d1 a1 0
noncomputable def fX11_lot (d : Dt) (a1 : Int) : Option Int :=
  lv (w32 ((w32 (9 * (d 1545 97))) + a1)) fun x1 => ck (0 ≤ x1 ∧ x1 < 54) <| some (d 1593 x1)
noncomputable def fX11_orderByVotes_122 (d : Dt) (v1 v2 : Int) : Option ((Dt × Int) ⊕ Dt) :=
  ck (0 ≤ v2 ∧ v2 < 9) <| sd d 1622 v2 v1 fun d8 => sd d8 1545 110 (w32 ((d8 1545 110) + 1)) fun d9 => lv (w32 (v1 + 1)) fun x10 => some (Sum.inl (d9, x10))
noncomputable def fX11_orderByVotes_102 (d : Dt) (v1 v2 : Int) : Option ((Dt × Int) ⊕ ((Dt × Int) ⊕ Dt)) :=
  lv (w32 (v2 - 1)) fun x17 => ck (0 ≤ x17 ∧ x17 < 9) <| ck (0 ≤ v2 ∧ v2 < 9) <| sd d 1622 v2 (d 1622 x17) fun d20 => lv (w32 (v2 + (-1))) fun x21 => some (Sum.inl (d20, x21))
noncomputable def fX11_orderByVotes_32f (v1 : Int) (s : Dt × Int) : Option ((Dt × Int) ⊕ ((Dt × Int) ⊕ Dt)) := match s with
  | (d, v2) => (if v2 ≤ 0 then up (fX11_orderByVotes_122 d v1 v2) else ck (0 ≤ v1 ∧ v1 < 9) <| lv (w32 (v2 - 1)) fun x12 => ck (0 ≤ x12 ∧ x12 < 9) <| lv (d 1622 x12) fun x14 => ck (0 ≤ x14 ∧ x14 < 9) <| (if 0 < (jCmp (d 1621 v1) (d 1621 x14)) then fX11_orderByVotes_102 d v1 v2 else lv (w32 (v2 - 1)) fun x22 => ck (0 ≤ x22 ∧ x22 < 9) <| lv (d 1622 x22) fun x24 => ck (0 ≤ x24 ∧ x24 < 9) <| (if (jCmp (d 1621 v1) (d 1621 x24)) = 0 then b1 (fX11_lot d v1) fun x27 => lv (w32 (v2 - 1)) fun x29 => ck (0 ≤ x29 ∧ x29 < 9) <| b1 (fX11_lot d (d 1622 x29)) fun x31 => (if x31 ≤ x27 then up (fX11_orderByVotes_122 d v1 v2) else fX11_orderByVotes_102 d v1 v2) else up (fX11_orderByVotes_122 d v1 v2))))
noncomputable def fX11_orderByVotes_32 (d : Dt) (v1 v2 : Int) : Option ((Dt × Int) ⊕ Dt) := loop (fX11_orderByVotes_32f v1) (d, v2)
noncomputable def fX11_orderByVotes_7f (s : Dt × Int) : Option ((Dt × Int) ⊕ Dt) := match s with
  | (d, v1) => (if (d 1545 98) ≤ v1 then up (some d) else ck (0 ≤ v1 ∧ v1 < 9) <| (if (d 1617 v1) = 0 then lv (w32 (v1 + 1)) fun x34 => some (Sum.inl (d, x34)) else lv (d 1545 110) fun x5 => fX11_orderByVotes_32 d v1 x5))
noncomputable def fX11_orderByVotes_7 (d : Dt) (v1 : Int) : Option Dt := loop (fX11_orderByVotes_7f) (d, v1)
noncomputable def fX11_orderByVotes (d : Dt) : Option Dt :=
  sd d 1545 110 0 fun d1 => fX11_orderByVotes_7 d1 0
noncomputable def fX11_personOf (d : Dt) (a1 : Int) : Option Int :=
  lv (w32 ((w32 (9 * (d 1545 97))) + a1)) fun x1 => ck (0 ≤ x1 ∧ x1 < 54) <| lv (d 1590 x1) fun x3 => ck (0 ≤ x3 ∧ x3 < 54) <| some (d 1583 x3)
noncomputable def fX11_countFirsts_86f (a1 v2 : Int) (s : Dt × Int) : Option ((Dt × Int) ⊕ ((Dt × Int) ⊕ Dt)) := match s with
  | (d, v3) => (if (fJ9_min (d 1545 100) (d 1545 99)) ≤ v3 then up (lv (w32 (v2 + 1)) fun x15 => some (Sum.inl (d, x15))) else sd d 1545 148 (w32 ((d 1545 148) + 1)) fun d16 => ck (0 ≤ v3 ∧ v3 < 9) <| b1 (fX11_personOf d16 (d16 1622 v3)) fun x18 => ck (0 ≤ x18 ∧ x18 < 60) <| sd d16 1652 x18 (1 % 2) fun d21 => b1 (fX11_partyOf d21 (d21 1622 v3)) fun x22 => (if x22 < 0 then lv (w32 (v3 + 1)) fun x25 => some (Sum.inl (d21, x25)) else b1 (fX11_partyOf d21 (d21 1622 v3)) fun x26 => ck (0 ≤ x26 ∧ x26 < 8) <| sd d21 1651 x26 (w32 ((d21 1651 x26) + 1)) fun d29 => lv (w32 (v3 + 1)) fun x30 => some (Sum.inl (d29, x30))))
noncomputable def fX11_countFirsts_86 (d : Dt) (a1 v2 v3 : Int) : Option ((Dt × Int) ⊕ Dt) := loop (fX11_countFirsts_86f a1 v2) (d, v3)
noncomputable def fX11_countFirsts_49f (a1 : Int) (s : Dt × Int) : Option ((Dt × Int) ⊕ Dt) := match s with
  | (d, v2) => (if (d 1545 47) ≤ v2 then up (some d) else b1 (fX11_contestIs d v2 2) fun x5 => (if x5 = 0 then bd (fX11_gather d v2 a1) fun d8 => bd (fX11_votesByMarks d8 0) fun d10 => bd (fX11_orderByVotes d10) fun d12 => fX11_countFirsts_86 d12 a1 v2 0 else lv (w32 (v2 + 1)) fun x31 => some (Sum.inl (d, x31))))
noncomputable def fX11_countFirsts_49 (d : Dt) (a1 v2 : Int) : Option Dt := loop (fX11_countFirsts_49f a1) (d, v2)
noncomputable def fX11_countFirsts_28f (a1 : Int) (s : Dt × Int) : Option ((Dt × Int) ⊕ Dt) := match s with
  | (d, v2) => (if 60 ≤ v2 then up (fX11_countFirsts_49 d a1 0) else ck (0 ≤ v2 ∧ v2 < 60) <| sd d 1652 v2 (0 % 2) fun d33 => lv (w32 (v2 + 1)) fun x34 => some (Sum.inl (d33, x34)))
noncomputable def fX11_countFirsts_28 (d : Dt) (a1 v2 : Int) : Option Dt := loop (fX11_countFirsts_28f a1) (d, v2)
noncomputable def fX11_countFirsts_7f (a1 : Int) (s : Dt × Int) : Option ((Dt × Int) ⊕ Dt) := match s with
  | (d, v2) => (if 8 ≤ v2 then up (fX11_countFirsts_28 d a1 0) else ck (0 ≤ v2 ∧ v2 < 8) <| sd d 1651 v2 0 fun d36 => lv (w32 (v2 + 1)) fun x37 => some (Sum.inl (d36, x37)))
noncomputable def fX11_countFirsts_7 (d : Dt) (a1 v2 : Int) : Option Dt := loop (fX11_countFirsts_7f a1) (d, v2)
noncomputable def fX11_countFirsts (d : Dt) (a1 : Int) : Option Dt :=
  sd d 1545 148 0 fun d1 => fX11_countFirsts_7 d1 a1 0
noncomputable def fX11_makeLists_309f (v3 : Int) (s : Dt × Int) : Option ((Dt × Int) ⊕ Dt) := match s with
  | (d, v4) => (if (d 1545 137) ≤ v4 then up (some d) else (if v3 = 0 then ck (0 ≤ v4 ∧ v4 < 9) <| sd d 1645 v4 (1 % 2) fun d12 => lv (w32 (v4 + 1)) fun x13 => some (Sum.inl (d12, x13)) else up (some d)))
noncomputable def fX11_makeLists_309 (d : Dt) (v3 v4 : Int) : Option Dt := loop (fX11_makeLists_309f v3) (d, v4)
noncomputable def fX11_makeLists_289 (d : Dt) (v1 v2 v3 v4 s1 s2 : Int) : Option ((Dt × Int × Int) ⊕ Dt) :=
  ck (0 ≤ s1 ∧ s1 < 9) <| sd d 1645 s1 (s2 % 2) fun d16 => ck (0 ≤ v4 ∧ v4 < 9) <| lv (bOr v3 (d16 1645 v4)) fun x18 => lv (w32 (v4 + 1)) fun x19 => some (Sum.inl (d16, x18, x19))
noncomputable def fX11_makeLists_247f (v1 v2 : Int) (s : Dt × Int × Int) : Option ((Dt × Int × Int) ⊕ Dt) := match s with
  | (d, v3, v4) => (if (d 1545 137) ≤ v4 then up (fX11_makeLists_309 d v3 0) else (if v2 = 0 then fX11_makeLists_289 d v1 v2 v3 v4 v4 1 else ck (0 ≤ v4 ∧ v4 < 9) <| (if (w32 ((d 1643 v4) * v2)) < (w32 (v1 * (d 1545 102))) then fX11_makeLists_289 d v1 v2 v3 v4 v4 0 else fX11_makeLists_289 d v1 v2 v3 v4 v4 1)))
noncomputable def fX11_makeLists_247 (d : Dt) (v1 v2 v3 v4 : Int) : Option Dt := loop (fX11_makeLists_247f v1 v2) (d, v3, v4)
noncomputable def fX11_makeLists_167f (d : Dt) (v1 : Int) (s : Int × Int) : Option ((Int × Int) ⊕ ((Dt × Int) ⊕ Dt)) := match s with
  | (v2, v3) => (if (d 1545 98) ≤ v3 then up (ck (0 ≤ v2 ∧ v2 < 9) <| sd d 1643 v2 (w32 ((d 1643 v2) + 1)) fun d24 => lv (w32 (v1 + 1)) fun x25 => some (Sum.inl (d24, x25))) else lv (w32 ((w32 (9 * v1)) + v3)) fun x26 => ck (0 ≤ x26 ∧ x26 < 1800) <| (if (d 1618 x26) ≤ 0 then lv (w32 (v3 + 1)) fun x29 => some (Sum.inl (v2, x29)) else ck (0 ≤ v3 ∧ v3 < 9) <| lv (d 1641 v3) fun x31 => lv (w32 (v3 + 1)) fun x32 => some (Sum.inl (x31, x32))))
noncomputable def fX11_makeLists_167 (d : Dt) (v1 v2 v3 : Int) : Option ((Dt × Int) ⊕ Dt) := loop (fX11_makeLists_167f d v1) (v2, v3)
noncomputable def fX11_makeLists_155f (s : Dt × Int) : Option ((Dt × Int) ⊕ Dt) := match s with
  | (d, v1) => (if (d 1545 102) ≤ v1 then up (b1 (fX11_contestIs d (d 1545 97) 4) fun x4 => b1 (fX11_contestIs d (d 1545 97) 5) fun x6 => fX11_makeLists_247 d x4 x6 0 0) else fX11_makeLists_167 d v1 (-1) 0)
noncomputable def fX11_makeLists_155 (d : Dt) (v1 : Int) : Option Dt := loop (fX11_makeLists_155f) (d, v1)
noncomputable def fX11_makeLists_130 (d : Dt) (v1 v2 v3 : Int) : Option ((Dt × Int) ⊕ Dt) :=
  ck (0 ≤ v2 ∧ v2 < 9) <| sd d 1641 v2 v3 fun d41 => ck (0 ≤ v3 ∧ v3 < 9) <| sd d41 1644 v3 (w32 ((d41 1644 v3) + 1)) fun d43 => lv (w32 (v1 + 1)) fun x44 => some (Sum.inl (d43, x44))
noncomputable def fX11_makeLists_80 (d : Dt) (v1 v2 v3 : Int) : Option ((Dt × Int) ⊕ Dt) :=
  (if v3 = (d 1545 137) then sd d 1545 137 (w32 ((d 1545 137) + 1)) fun d45 => b1 (fX11_partyOf d45 v2) fun x46 => ck (0 ≤ v3 ∧ v3 < 9) <| sd d45 1642 v3 x46 fun d49 => sd d49 1644 v3 0 fun d50 => sd d50 1643 v3 0 fun d51 => sd d51 1649 v3 0 fun d52 => fX11_makeLists_130 d52 v1 v2 v3 else fX11_makeLists_130 d v1 v2 v3)
noncomputable def fX11_makeLists_44f (d : Dt) (v1 v2 : Int) (s : Int) : Option ((Int) ⊕ ((Dt × Int) ⊕ Dt)) := (fun v3 => (if (d 1545 137) ≤ v3 then up (fX11_makeLists_80 d v1 v2 v3) else b1 (fX11_partyOf d v2) fun x53 => (if x53 < 0 then lv (w32 (v3 + 1)) fun x56 => some (Sum.inl x56) else ck (0 ≤ v3 ∧ v3 < 9) <| b1 (fX11_partyOf d v2) fun x58 => (if (d 1642 v3) = x58 then up (fX11_makeLists_80 d v1 v2 v3) else lv (w32 (v3 + 1)) fun x61 => some (Sum.inl x61))))) s
noncomputable def fX11_makeLists_44 (d : Dt) (v1 v2 v3 : Int) : Option ((Dt × Int) ⊕ Dt) := loop (fX11_makeLists_44f d v1 v2) v3
noncomputable def fX11_makeLists_7f (s : Dt × Int) : Option ((Dt × Int) ⊕ Dt) := match s with
  | (d, v1) => (if (d 1545 98) ≤ v1 then up (fX11_makeLists_155 d 0) else lv (w32 ((w32 (9 * (d 1545 97))) + v1)) fun x33 => ck (0 ≤ x33 ∧ x33 < 54) <| lv (d 1592 x33) fun x35 => ck (0 ≤ x35 ∧ x35 < 9) <| (if (d 1617 x35) = 0 then lv (w32 (v1 + 1)) fun x62 => some (Sum.inl (d, x62)) else fX11_makeLists_44 d v1 x35 0))
noncomputable def fX11_makeLists_7 (d : Dt) (v1 : Int) : Option Dt := loop (fX11_makeLists_7f) (d, v1)
noncomputable def fX11_makeLists (d : Dt) : Option Dt :=
  sd d 1545 137 0 fun d1 => fX11_makeLists_7 d1 0
noncomputable def fX11_votesOfAll_32 (d : Dt) (v2 s0 s1 : Int) : Option ((Int × Int) ⊕ Int) :=
  lv (w32 (s0 + s1)) fun x4 => lv (w32 (v2 + 1)) fun x5 => some (Sum.inl (x4, x5))
noncomputable def fX11_votesOfAll_4f (d : Dt) (s : Int × Int) : Option ((Int × Int) ⊕ Int) := match s with
  | (v1, v2) => (if (d 1545 137) ≤ v2 then up (some v1) else ck (0 ≤ v2 ∧ v2 < 9) <| (if (d 1645 v2) = 0 then fX11_votesOfAll_32 d v2 v1 0 else fX11_votesOfAll_32 d v2 v1 (d 1643 v2)))
noncomputable def fX11_votesOfAll_4 (d : Dt) (v1 v2 : Int) : Option Int := loop (fX11_votesOfAll_4f d) (v1, v2)
noncomputable def fX11_votesOfAll (d : Dt) : Option Int :=
  fX11_votesOfAll_4 d 0 0
noncomputable def fX11_sortLists_130 (d : Dt) (a1 v2 v3 v4 : Int) : Option ((Dt × Int) ⊕ Dt) :=
  ck (0 ≤ v4 ∧ v4 < 9) <| sd d 1650 v4 v3 fun d9 => sd d9 1545 110 (w32 ((d9 1545 110) + 1)) fun d10 => lv (w32 (v2 + 1)) fun x11 => some (Sum.inl (d10, x11))
noncomputable def fX11_sortLists_108 (d : Dt) (a1 v2 v3 v4 : Int) : Option ((Dt × Int) ⊕ ((Dt × Int) ⊕ Dt)) :=
  lv (w32 (v4 - 1)) fun x19 => ck (0 ≤ x19 ∧ x19 < 9) <| ck (0 ≤ v4 ∧ v4 < 9) <| sd d 1650 v4 (d 1650 x19) fun d22 => lv (w32 (v4 + (-1))) fun x23 => some (Sum.inl (d22, x23))
noncomputable def fX11_sortLists_50f (a1 v2 v3 : Int) (s : Dt × Int) : Option ((Dt × Int) ⊕ ((Dt × Int) ⊕ Dt)) := match s with
  | (d, v4) => (if v4 ≤ 0 then up (fX11_sortLists_130 d a1 v2 v3 v4) else (if a1 = 0 then ck (0 ≤ v3 ∧ v3 < 9) <| lv (w32 (v4 - 1)) fun x14 => ck (0 ≤ x14 ∧ x14 < 9) <| lv (d 1650 x14) fun x16 => ck (0 ≤ x16 ∧ x16 < 9) <| (if (d 1647 x16) ≤ (d 1647 v3) then up (fX11_sortLists_130 d a1 v2 v3 v4) else fX11_sortLists_108 d a1 v2 v3 v4) else ck (0 ≤ v3 ∧ v3 < 9) <| lv (w32 (v4 - 1)) fun x25 => ck (0 ≤ x25 ∧ x25 < 9) <| lv (d 1650 x25) fun x27 => ck (0 ≤ x27 ∧ x27 < 9) <| (if (d 1647 v3) ≤ (d 1647 x27) then up (fX11_sortLists_130 d a1 v2 v3 v4) else fX11_sortLists_108 d a1 v2 v3 v4)))
noncomputable def fX11_sortLists_50 (d : Dt) (a1 v2 v3 v4 : Int) : Option ((Dt × Int) ⊕ Dt) := loop (fX11_sortLists_50f a1 v2 v3) (d, v4)
noncomputable def fX11_sortLists_31 (d : Dt) (a1 v2 s0 : Int) : Option ((Dt × Int) ⊕ Dt) :=
  ck (0 ≤ s0 ∧ s0 < 9) <| (if (d 1645 s0) = 0 then lv (w32 (v2 + 1)) fun x30 => some (Sum.inl (d, x30)) else lv (d 1545 110) fun x6 => fX11_sortLists_50 d a1 v2 s0 x6)
noncomputable def fX11_sortLists_7f (a1 : Int) (s : Dt × Int) : Option ((Dt × Int) ⊕ Dt) := match s with
  | (d, v2) => (if (d 1545 137) ≤ v2 then up (some d) else (if a1 = 0 then fX11_sortLists_31 d a1 v2 (w32 ((w32 ((d 1545 137) - 1)) - v2)) else fX11_sortLists_31 d a1 v2 v2))
noncomputable def fX11_sortLists_7 (d : Dt) (a1 v2 : Int) : Option Dt := loop (fX11_sortLists_7f a1) (d, v2)
noncomputable def fX11_sortLists (d : Dt) (a1 : Int) : Option Dt :=
  sd d 1545 110 0 fun d1 => fX11_sortLists_7 d1 a1 0
noncomputable def fX11_hasPlace (d : Dt) (a1 a2 : Int) : Option Int :=
  ck (0 ≤ a1 ∧ a1 < 9) <| (if (d 1645 a1) = 0 then some 0 else (if a2 = 0 then some 1 else (if (d 1644 a1) ≤ (d 1646 a1) then some 0 else some 1)))
noncomputable def fX11_dealByQuota_269f (a1 a2 a3 : Int) (s : Dt × Int × Int × Int) : Option ((Dt × Int × Int × Int) ⊕ ((Dt × Int × Int) ⊕ Dt)) := match s with
  | (d, v5, v6, v7) => (if (d 1545 110) ≤ v7 then up (some (Sum.inl (d, v5, v6))) else (if a2 ≤ v5 then up (some (Sum.inl (d, v5, v6))) else ck (0 ≤ v7 ∧ v7 < 9) <| lv (d 1650 v7) fun x12 => b1 (fX11_hasPlace d x12 a3) fun x13 => (if x13 = 0 then lv (w32 (v7 + 1)) fun x20 => some (Sum.inl (d, v5, v6, x20)) else ck (0 ≤ x12 ∧ x12 < 9) <| sd d 1646 x12 (w32 ((d 1646 x12) + 1)) fun d17 => lv (w32 (v5 + 1)) fun x18 => lv (w32 (v7 + 1)) fun x19 => some (Sum.inl (d17, x18, 1, x19)))))
noncomputable def fX11_dealByQuota_269 (d : Dt) (a1 a2 a3 v5 v6 v7 : Int) : Option ((Dt × Int × Int) ⊕ Dt) := loop (fX11_dealByQuota_269f a1 a2 a3) (d, v5, v6, v7)
noncomputable def fX11_dealByQuota_247f (a1 a2 a3 : Int) (s : Dt × Int × Int) : Option ((Dt × Int × Int) ⊕ Dt) := match s with
  | (d, v5, v6) => (if a2 ≤ v5 then up (some d) else (if v6 = 0 then up (some d) else bd (fX11_sortLists d 1) fun d7 => fX11_dealByQuota_269 d7 a1 a2 a3 v5 0 0))
noncomputable def fX11_dealByQuota_247 (d : Dt) (a1 a2 a3 v5 v6 : Int) : Option Dt := loop (fX11_dealByQuota_247f a1 a2 a3) (d, v5, v6)
noncomputable def fX11_dealByQuota_184f (a1 a2 a3 : Int) (s : Dt × Int × Int) : Option ((Dt × Int × Int) ⊕ ((Dt × Int) ⊕ Dt)) := match s with
  | (d, v5, v6) => (if (d 1545 110) ≤ v6 then up (some (Sum.inl (d, v5))) else (if v5 ≤ a2 then up (some (Sum.inl (d, v5))) else ck (0 ≤ v6 ∧ v6 < 9) <| lv (d 1650 v6) fun x26 => ck (0 ≤ x26 ∧ x26 < 9) <| (if (d 1646 x26) = 0 then lv (w32 (v6 + 1)) fun x32 => some (Sum.inl (d, v5, x32)) else sd d 1646 x26 (w32 ((d 1646 x26) - 1)) fun d29 => lv (w32 (v5 + (-1))) fun x30 => lv (w32 (v6 + 1)) fun x31 => some (Sum.inl (d29, x30, x31)))))
noncomputable def fX11_dealByQuota_184 (d : Dt) (a1 a2 a3 v5 v6 : Int) : Option ((Dt × Int) ⊕ Dt) := loop (fX11_dealByQuota_184f a1 a2 a3) (d, v5, v6)
noncomputable def fX11_dealByQuota_170f (a1 a2 a3 : Int) (s : Dt × Int) : Option ((Dt × Int) ⊕ Dt) := match s with
  | (d, v5) => (if v5 ≤ a2 then up (fX11_dealByQuota_247 d a1 a2 a3 v5 1) else bd (fX11_sortLists d 0) fun d21 => fX11_dealByQuota_184 d21 a1 a2 a3 v5 0)
noncomputable def fX11_dealByQuota_170 (d : Dt) (a1 a2 a3 v5 : Int) : Option Dt := loop (fX11_dealByQuota_170f a1 a2 a3) (d, v5)
noncomputable def fX11_dealByQuota_151 (d : Dt) (a1 a2 a3 v4 v5 v6 s1 s2 : Int) : Option ((Dt × Int × Int) ⊕ Dt) :=
  ck (0 ≤ s1 ∧ s1 < 9) <| sd d 1646 s1 s2 fun d46 => ck (0 ≤ v6 ∧ v6 < 9) <| lv (w32 (v5 + (d46 1646 v6))) fun x48 => lv (w32 (v6 + 1)) fun x49 => some (Sum.inl (d46, x48, x49))
noncomputable def fX11_dealByQuota_87 (d : Dt) (a1 a2 a3 v4 v5 v6 v7 s0 : Int) : Option ((Dt × Int × Int) ⊕ Dt) :=
  ck (0 ≤ v6 ∧ v6 < 9) <| ck (s0 ≠ 0) <| lv (w32 (Int.tdiv (w32 ((d 1643 v6) * v7)) s0)) fun x41 => ck (s0 ≠ 0) <| sd d 1647 v6 (Int.tmod (w32 ((d 1643 v6) * v7)) s0) fun d43 => (if a3 = 0 then fX11_dealByQuota_151 d43 a1 a2 a3 v4 v5 v6 v6 x41 else fX11_dealByQuota_151 d43 a1 a2 a3 v4 v5 v6 v6 (fJ9_min x41 (d43 1644 v6)))
noncomputable def fX11_dealByQuota_66 (d : Dt) (a1 a2 a3 v4 v5 v6 s0 : Int) : Option ((Dt × Int × Int) ⊕ Dt) :=
  (if a1 = 6 then lv (w32 (a2 + 1)) fun x50 => ck (x50 ≠ 0) <| fX11_dealByQuota_87 d a1 a2 a3 v4 v5 v6 s0 (w32 ((w32 (Int.tdiv v4 x50)) + 1)) else fX11_dealByQuota_87 d a1 a2 a3 v4 v5 v6 s0 v4)
noncomputable def fX11_dealByQuota_65 (d : Dt) (a1 a2 a3 v4 v5 v6 s0 s1 : Int) : Option ((Dt × Int × Int) ⊕ Dt) :=
  fX11_dealByQuota_66 d a1 a2 a3 v4 v5 v6 (w32 (s0 + s1))
noncomputable def fX11_dealByQuota_12f (a1 a2 a3 v4 : Int) (s : Dt × Int × Int) : Option ((Dt × Int × Int) ⊕ Dt) := match s with
  | (d, v5, v6) => (if (d 1545 137) ≤ v6 then up (fX11_dealByQuota_170 d a1 a2 a3 v5) else ck (0 ≤ v6 ∧ v6 < 9) <| (if (d 1645 v6) = 0 then lv (w32 (v6 + 1)) fun x52 => some (Sum.inl (d, v5, x52)) else (if a1 = 6 then fX11_dealByQuota_66 d a1 a2 a3 v4 v5 v6 1 else (if a1 = 5 then fX11_dealByQuota_65 d a1 a2 a3 v4 v5 v6 a2 0 else (if a1 = 7 then fX11_dealByQuota_65 d a1 a2 a3 v4 v5 v6 a2 1 else fX11_dealByQuota_65 d a1 a2 a3 v4 v5 v6 a2 2)))))
noncomputable def fX11_dealByQuota_12 (d : Dt) (a1 a2 a3 v4 v5 v6 : Int) : Option Dt := loop (fX11_dealByQuota_12f a1 a2 a3 v4) (d, v5, v6)
noncomputable def fX11_dealByQuota (d : Dt) (a1 a2 a3 : Int) : Option Dt :=
  b1 (fX11_votesOfAll d) fun x1 => fX11_dealByQuota_12 d a1 a2 a3 x1 0 0
def fX11_divisor (a1 a2 : Int) : Int :=
  (if a1 = 0 then (w32 (a2 + 1)) else (if a1 = 1 then (w32 ((w32 (2 * a2)) + 1)) else (if a1 = 2 then (w32 ((w32 (3 * a2)) + 1)) else (if a1 = 3 then (w32 (a2 + 2)) else (if a2 = 0 then 14 else (w32 (10 * (w32 ((w32 (2 * a2)) + 1)))))))))
noncomputable def fX11_deal_59f (d : Dt) (a1 a2 v3 v4 : Int) (s : Int × Int) : Option ((Int × Int) ⊕ ((Dt × Int) ⊕ Dt)) := match s with
  | (v5, v6) => (if (d 1545 137) ≤ v6 then up ((if 0 ≤ v5 then ck (0 ≤ v5 ∧ v5 < 9) <| sd d 1646 v5 (w32 ((d 1646 v5) + 1)) fun d9 => lv (w32 (v4 + 1)) fun x10 => some (Sum.inl (d9, x10)) else up (some d))) else b1 (fX11_hasPlace d v6 a2) fun x11 => (if x11 = 0 then lv (w32 (v6 + 1)) fun x21 => some (Sum.inl (v5, x21)) else (if v5 < 0 then lv (w32 (v6 + 1)) fun x15 => some (Sum.inl (v6, x15)) else ck (0 ≤ v6 ∧ v6 < 9) <| ck (0 ≤ v5 ∧ v5 < 9) <| (if (w32 ((d 1643 v6) * (fX11_divisor v3 (d 1646 v5)))) ≤ (w32 ((d 1643 v5) * (fX11_divisor v3 (d 1646 v6)))) then lv (w32 (v6 + 1)) fun x19 => some (Sum.inl (v5, x19)) else lv (w32 (v6 + 1)) fun x20 => some (Sum.inl (v6, x20))))))
noncomputable def fX11_deal_59 (d : Dt) (a1 a2 v3 v4 v5 v6 : Int) : Option ((Dt × Int) ⊕ Dt) := loop (fX11_deal_59f d a1 a2 v3 v4) (v5, v6)
noncomputable def fX11_deal_47f (a1 a2 v3 : Int) (s : Dt × Int) : Option ((Dt × Int) ⊕ Dt) := match s with
  | (d, v4) => (if a1 ≤ v4 then up (some d) else fX11_deal_59 d a1 a2 v3 v4 (-1) 0)
noncomputable def fX11_deal_47 (d : Dt) (a1 a2 v3 v4 : Int) : Option Dt := loop (fX11_deal_47f a1 a2 v3) (d, v4)
noncomputable def fX11_deal_2f (a1 a2 : Int) (s : Dt × Int) : Option ((Dt × Int) ⊕ Dt) := match s with
  | (d, v3) => (if 9 ≤ v3 then up (b1 (fX11_contestIs d (d 1545 97) 3) fun x2 => (if x2 < 5 then fX11_deal_47 d a1 a2 x2 0 else bd (fX11_dealByQuota d x2 a1 a2) fun d22 => some d22)) else ck (0 ≤ v3 ∧ v3 < 9) <| sd d 1646 v3 0 fun d25 => lv (w32 (v3 + 1)) fun x26 => some (Sum.inl (d25, x26)))
noncomputable def fX11_deal_2 (d : Dt) (a1 a2 v3 : Int) : Option Dt := loop (fX11_deal_2f a1 a2) (d, v3)
noncomputable def fX11_deal (d : Dt) (a1 a2 : Int) : Option Dt :=
  fX11_deal_2 d a1 a2 0
noncomputable def fX11_level_175f (s : Dt × Int) : Option ((Dt × Int) ⊕ Dt) := match s with
  | (d, v4) => (if (d 1545 137) ≤ v4 then up (some d) else ck (0 ≤ v4 ∧ v4 < 9) <| sd d 1646 v4 (fJ9_max 0 (w32 ((d 1646 v4) - (d 1648 v4)))) fun d6 => lv (w32 (v4 + 1)) fun x7 => some (Sum.inl (d6, x7)))
noncomputable def fX11_level_175 (d : Dt) (v4 : Int) : Option Dt := loop (fX11_level_175f) (d, v4)
noncomputable def fX11_level_165 (d : Dt) (v1 v2 v3 s1 s2 : Int) : Option ((Dt × Int) ⊕ Dt) :=
  sd d 1545 122 (w32 (s1 + s2)) fun d13 => some (Sum.inl (d13, v3))
noncomputable def fX11_level_150 (d : Dt) (v1 v2 s0 : Int) : Option ((Dt × Int) ⊕ Dt) :=
  (if s0 = 0 then fX11_level_165 d v1 v2 s0 (d 1545 122) 0 else fX11_level_165 d v1 v2 s0 (d 1545 122) 1)
noncomputable def fX11_level_123 (d : Dt) (v1 v2 v5 s0 s1 : Int) : Option ((Int × Int) ⊕ ((Dt × Int) ⊕ Dt)) :=
  lv (bOr s0 s1) fun x17 => lv (w32 (v5 + 1)) fun x18 => some (Sum.inl (x17, x18))
noncomputable def fX11_level_80f (d : Dt) (v1 v2 : Int) (s : Int × Int) : Option ((Int × Int) ⊕ ((Dt × Int) ⊕ Dt)) := match s with
  | (v4, v5) => (if (d 1545 137) ≤ v5 then up ((if v4 = 0 then fX11_level_150 d v1 v2 0 else (if v1 ≤ (d 1545 122) then fX11_level_150 d v1 v2 0 else fX11_level_150 d v1 v2 1))) else ck (0 ≤ v5 ∧ v5 < 9) <| (if (d 1645 v5) = 0 then fX11_level_123 d v1 v2 v5 v4 0 else (if (d 1648 v5) ≤ (d 1646 v5) then fX11_level_123 d v1 v2 v5 v4 0 else fX11_level_123 d v1 v2 v5 v4 1)))
noncomputable def fX11_level_80 (d : Dt) (v1 v2 v4 v5 : Int) : Option ((Dt × Int) ⊕ Dt) := loop (fX11_level_80f d v1 v2) (v4, v5)
noncomputable def fX11_level_54f (v1 v2 : Int) (s : Dt × Int) : Option ((Dt × Int) ⊕ Dt) := match s with
  | (d, v3) => (if v3 = 0 then up (fX11_level_175 d 0) else bd (fX11_deal d (w32 ((w32 ((d 1545 122) - (d 1545 148))) + v2)) 0) fun d8 => fX11_level_80 d8 v1 v2 0 0)
noncomputable def fX11_level_54 (d : Dt) (v1 v2 v3 : Int) : Option Dt := loop (fX11_level_54f v1 v2) (d, v3)
noncomputable def fX11_level_44 (d : Dt) (v1 v3 s0 s1 : Int) : Option ((Int × Int) ⊕ Dt) :=
  lv (w32 (s0 + s1)) fun x22 => lv (w32 (v3 + 1)) fun x23 => some (Sum.inl (x22, x23))
noncomputable def fX11_level_16f (d : Dt) (v1 : Int) (s : Int × Int) : Option ((Int × Int) ⊕ Dt) := match s with
  | (v2, v3) => (if (d 1545 137) ≤ v3 then up (fX11_level_54 d v1 v2 1) else ck (0 ≤ v3 ∧ v3 < 9) <| (if (d 1645 v3) = 0 then fX11_level_44 d v1 v3 v2 0 else fX11_level_44 d v1 v3 v2 (d 1648 v3)))
noncomputable def fX11_level_16 (d : Dt) (v1 v2 v3 : Int) : Option Dt := loop (fX11_level_16f d v1) (v2, v3)
noncomputable def fX11_level (d : Dt) : Option Dt :=
  lv (w32 (2 * (w32 ((d 1545 100) + (d 1545 148))))) fun x1 => fX11_level_16 d x1 0 0
noncomputable def fX11_win (d : Dt) (a1 : Int) : Option Dt :=
  lv (d 1545 120) fun x1 => ck (0 ≤ x1 ∧ x1 < 9) <| sd d 1626 x1 a1 fun d3 => sd d3 1545 120 (w32 ((d3 1545 120) + 1)) fun d4 => some d4
noncomputable def fX11_electLists_232 (d : Dt) (a1 v2 v3 v4 v5 : Int) : Option ((Dt × Int) ⊕ ((Dt × Int) ⊕ Dt)) :=
  bd (fX11_win d v5) fun d21 => ck (0 ≤ v3 ∧ v3 < 9) <| sd d21 1649 v3 (w32 ((d21 1649 v3) + 1)) fun d24 => lv (w32 (v4 + 1)) fun x25 => some (Sum.inl (d24, x25))
noncomputable def fX11_electLists_167f (a1 v2 v3 : Int) (s : Dt × Int) : Option ((Dt × Int) ⊕ ((Dt × Int) ⊕ Dt)) := match s with
  | (d, v4) => (if (d 1545 110) ≤ v4 then up (lv (w32 (v2 + 1)) fun x11 => some (Sum.inl (d, x11))) else ck (0 ≤ v4 ∧ v4 < 9) <| lv (d 1622 v4) fun x13 => ck (0 ≤ x13 ∧ x13 < 9) <| (if (d 1641 x13) = v3 then ck (0 ≤ v3 ∧ v3 < 9) <| (if (d 1646 v3) ≤ (d 1649 v3) then lv (w32 (v4 + 1)) fun x19 => some (Sum.inl (d, x19)) else (if a1 = 0 then fX11_electLists_232 d a1 v2 v3 v4 x13 else b1 (fX11_personOf d x13) fun x26 => ck (0 ≤ x26 ∧ x26 < 60) <| (if (d 1652 x26) = 0 then fX11_electLists_232 d a1 v2 v3 v4 x13 else lv (w32 (v4 + 1)) fun x30 => some (Sum.inl (d, x30))))) else lv (w32 (v4 + 1)) fun x16 => some (Sum.inl (d, x16))))
noncomputable def fX11_electLists_167 (d : Dt) (a1 v2 v3 v4 : Int) : Option ((Dt × Int) ⊕ Dt) := loop (fX11_electLists_167f a1 v2 v3) (d, v4)
noncomputable def fX11_electLists_149f (a1 : Int) (s : Dt × Int) : Option ((Dt × Int) ⊕ Dt) := match s with
  | (d, v2) => (if (d 1545 137) ≤ v2 then up (some d) else ck (0 ≤ v2 ∧ v2 < 9) <| lv (d 1650 v2) fun x9 => fX11_electLists_167 d a1 v2 x9 0)
noncomputable def fX11_electLists_149 (d : Dt) (a1 v2 : Int) : Option Dt := loop (fX11_electLists_149f a1) (d, v2)
noncomputable def fX11_electLists_134 (d : Dt) (a1 v2 v3 : Int) : Option ((Dt × Int) ⊕ Dt) :=
  ck (0 ≤ v3 ∧ v3 < 9) <| sd d 1650 v3 v2 fun d33 => lv (w32 (v2 + 1)) fun x34 => some (Sum.inl (d33, x34))
noncomputable def fX11_electLists_88f (a1 v2 : Int) (s : Dt × Int) : Option ((Dt × Int) ⊕ ((Dt × Int) ⊕ Dt)) := match s with
  | (d, v3) => (if v3 ≤ 0 then up (fX11_electLists_134 d a1 v2 v3) else ck (0 ≤ v2 ∧ v2 < 9) <| lv (w32 (v3 - 1)) fun x36 => ck (0 ≤ x36 ∧ x36 < 9) <| lv (d 1650 x36) fun x38 => ck (0 ≤ x38 ∧ x38 < 9) <| (if (d 1643 v2) ≤ (d 1643 x38) then up (fX11_electLists_134 d a1 v2 v3) else lv (w32 (v3 - 1)) fun x41 => ck (0 ≤ x41 ∧ x41 < 9) <| ck (0 ≤ v3 ∧ v3 < 9) <| sd d 1650 v3 (d 1650 x41) fun d44 => lv (w32 (v3 + (-1))) fun x45 => some (Sum.inl (d44, x45))))
noncomputable def fX11_electLists_88 (d : Dt) (a1 v2 v3 : Int) : Option ((Dt × Int) ⊕ Dt) := loop (fX11_electLists_88f a1 v2) (d, v3)
noncomputable def fX11_electLists_78f (a1 : Int) (s : Dt × Int) : Option ((Dt × Int) ⊕ Dt) := match s with
  | (d, v2) => (if (d 1545 137) ≤ v2 then up (fX11_electLists_149 d a1 0) else fX11_electLists_88 d a1 v2 v2)
noncomputable def fX11_electLists_78 (d : Dt) (a1 v2 : Int) : Option Dt := loop (fX11_electLists_78f a1) (d, v2)
noncomputable def fX11_electLists_33f (a1 : Int) (s : Dt × Int) : Option ((Dt × Int) ⊕ Dt) := match s with
  | (d, v2) => (if (d 1545 98) ≤ v2 then up (fX11_electLists_78 d a1 0) else ck (0 ≤ v2 ∧ v2 < 9) <| (if (d 1617 v2) = 0 then lv (w32 (v2 + 1)) fun x48 => some (Sum.inl (d, x48)) else lv (d 1545 110) fun x49 => ck (0 ≤ x49 ∧ x49 < 9) <| sd d 1622 x49 v2 fun d51 => sd d51 1545 110 (w32 ((d51 1545 110) + 1)) fun d52 => lv (w32 (v2 + 1)) fun x53 => some (Sum.inl (d52, x53))))
noncomputable def fX11_electLists_33 (d : Dt) (a1 v2 : Int) : Option Dt := loop (fX11_electLists_33f a1) (d, v2)
noncomputable def fX11_electLists (d : Dt) (a1 : Int) : Option Dt :=
  b1 (fX11_contestIs d (d 1545 97) 6) fun x1 => (if x1 = 1 then bd (fX11_votesByMarks d 2) fun d54 => bd (fX11_orderByVotes d54) fun d56 => fX11_electLists_78 d56 a1 0 else sd d 1545 110 0 fun d4 => fX11_electLists_33 d4 a1 0)
noncomputable def fX11_tell_48 (d : Dt) (v1 s1 s2 : Int) : Option ((Dt × Int) ⊕ Dt) :=
  ck (0 ≤ s1 ∧ s1 < 360) <| sd d 1623 s1 s2 fun d11 => lv (w32 (v1 + 1)) fun x12 => some (Sum.inl (d11, x12))
noncomputable def fX11_tell_2f (s : Dt × Int) : Option ((Dt × Int) ⊕ Dt) := match s with
  | (d, v1) => (if 9 ≤ v1 then up (lv (d 1545 116) fun x2 => ck (0 ≤ x2 ∧ x2 < 40) <| sd d 1624 x2 0 fun d4 => lv (d4 1545 116) fun x5 => ck (0 ≤ x5 ∧ x5 < 40) <| sd d4 1625 x5 (-1) fun d7 => sd d7 1545 116 (w32 ((d7 1545 116) + 1)) fun d8 => some d8) else (if (d 1545 98) ≤ v1 then fX11_tell_48 d v1 (w32 ((w32 (9 * (d 1545 116))) + v1)) 0 else ck (0 ≤ v1 ∧ v1 < 9) <| (if (d 1617 v1) = 0 then fX11_tell_48 d v1 (w32 ((w32 (9 * (d 1545 116))) + v1)) 0 else fX11_tell_48 d v1 (w32 ((w32 (9 * (d 1545 116))) + v1)) (d 1621 v1))))
noncomputable def fX11_tell_2 (d : Dt) (v1 : Int) : Option Dt := loop (fX11_tell_2f) (d, v1)
noncomputable def fX11_tell (d : Dt) : Option Dt :=
  fX11_tell_2 d 0
noncomputable def fX11_countLists_254 (d : Dt) (a1 a2 v4 s1 s2 : Int) : Option ((Dt × Int) ⊕ Dt) :=
  ck (0 ≤ s1 ∧ s1 < 9) <| sd d 1621 s1 s2 fun d28 => lv (w32 (v4 + 1)) fun x29 => some (Sum.inl (d28, x29))
noncomputable def fX11_countLists_212f (a1 a2 : Int) (s : Dt × Int) : Option ((Dt × Int) ⊕ Dt) := match s with
  | (d, v4) => (if (d 1545 98) ≤ v4 then up (bd (fX11_tell d) fun d23 => some d23) else ck (0 ≤ v4 ∧ v4 < 9) <| (if (d 1617 v4) = 0 then fX11_countLists_254 d a1 a2 v4 v4 0 else lv (d 1641 v4) fun x30 => ck (0 ≤ x30 ∧ x30 < 9) <| fX11_countLists_254 d a1 a2 v4 v4 (d 1649 x30)))
noncomputable def fX11_countLists_212 (d : Dt) (a1 a2 v4 : Int) : Option Dt := loop (fX11_countLists_212f a1 a2) (d, v4)
noncomputable def fX11_countLists_198 (d : Dt) (a1 a2 v4 s1 s2 : Int) : Option ((Dt × Int) ⊕ Dt) :=
  ck (0 ≤ s1 ∧ s1 < 9) <| sd d 1621 s1 s2 fun d35 => lv (w32 (v4 + 1)) fun x36 => some (Sum.inl (d35, x36))
noncomputable def fX11_countLists_156f (a1 a2 : Int) (s : Dt × Int) : Option ((Dt × Int) ⊕ Dt) := match s with
  | (d, v4) => (if (d 1545 98) ≤ v4 then up (bd (fX11_tell d) fun d20 => fX11_countLists_212 d20 a1 a2 0) else ck (0 ≤ v4 ∧ v4 < 9) <| (if (d 1617 v4) = 0 then fX11_countLists_198 d a1 a2 v4 v4 0 else lv (d 1641 v4) fun x37 => ck (0 ≤ x37 ∧ x37 < 9) <| fX11_countLists_198 d a1 a2 v4 v4 (d 1643 x37)))
noncomputable def fX11_countLists_156 (d : Dt) (a1 a2 v4 : Int) : Option Dt := loop (fX11_countLists_156f a1 a2) (d, v4)
noncomputable def fX11_countLists_144 (d : Dt) (a1 a2 : Int) : Option Dt :=
  bd (fX11_votesByMarks d 2) fun d15 => bd (fX11_tell d15) fun d17 => fX11_countLists_156 d17 a1 a2 0
noncomputable def fX11_countLists_139 (d : Dt) (a1 a2 v3 : Int) : Option Dt :=
  bd (fX11_electLists d v3) fun d42 => fX11_countLists_144 d42 a1 a2
noncomputable def fX11_countLists_109 (d : Dt) (a1 a2 v3 s1 : Int) : Option Dt :=
  sd d 1545 122 s1 fun d11 => b1 (fX11_votesOfAll d11) fun x12 => (if x12 ≤ 0 then fX11_countLists_144 d11 a1 a2 else (if v3 = 0 then bd (fX11_deal d11 (d11 1545 100) 1) fun d40 => fX11_countLists_139 d40 a1 a2 v3 else bd (fX11_level d11) fun d44 => fX11_countLists_139 d44 a1 a2 v3))
noncomputable def fX11_countLists_84 (d : Dt) (a1 a2 v3 v4 s1 s2 : Int) : Option ((Dt × Int) ⊕ Dt) :=
  ck (0 ≤ s1 ∧ s1 < 9) <| sd d 1648 s1 s2 fun d48 => lv (w32 (v4 + 1)) fun x49 => some (Sum.inl (d48, x49))
noncomputable def fX11_countLists_39f (a1 a2 v3 : Int) (s : Dt × Int) : Option ((Dt × Int) ⊕ Dt) := match s with
  | (d, v4) => (if (d 1545 137) ≤ v4 then up ((if v3 = 0 then fX11_countLists_109 d a1 a2 v3 0 else fX11_countLists_109 d a1 a2 v3 (w32 ((d 1545 100) + (d 1545 148))))) else (if v3 = 0 then fX11_countLists_84 d a1 a2 v3 v4 v4 0 else ck (0 ≤ v4 ∧ v4 < 9) <| (if (d 1642 v4) < 0 then fX11_countLists_84 d a1 a2 v3 v4 v4 0 else lv (d 1642 v4) fun x52 => ck (0 ≤ x52 ∧ x52 < 8) <| fX11_countLists_84 d a1 a2 v3 v4 v4 (d 1651 x52))))
noncomputable def fX11_countLists_39 (d : Dt) (a1 a2 v3 v4 : Int) : Option Dt := loop (fX11_countLists_39f a1 a2 v3) (d, v4)
noncomputable def fX11_countLists_26 (d : Dt) (a1 a2 v3 : Int) : Option Dt :=
  bd (fX11_gather d a1 a2) fun d5 => bd (fX11_makeLists d5) fun d7 => fX11_countLists_39 d7 a1 a2 v3 0
noncomputable def fX11_countLists_16 (d : Dt) (a1 a2 s0 : Int) : Option Dt :=
  (if s0 = 0 then fX11_countLists_26 d a1 a2 s0 else bd (fX11_countFirsts d a2) fun d54 => fX11_countLists_26 d54 a1 a2 s0)
noncomputable def fX11_countLists (d : Dt) (a1 a2 : Int) : Option Dt :=
  b1 (fX11_contestIs d a1 7) fun x1 => (if x1 = 1 then fX11_countLists_16 d a1 a2 1 else fX11_countLists_16 d a1 a2 0)
noncomputable def fX11_votesByRanks_16f (v1 : Int) (s : Dt × Int) : Option ((Dt × Int) ⊕ ((Dt × Int) ⊕ Dt)) := match s with
  | (d, v2) => ck (0 ≤ v1 ∧ v1 < 200) <| (if (d 1620 v1) ≤ v2 then up (lv (w32 (v1 + 1)) fun x6 => some (Sum.inl (d, x6))) else lv (w32 ((w32 (9 * v1)) + v2)) fun x7 => ck (0 ≤ x7 ∧ x7 < 1800) <| lv (d 1619 x7) fun x9 => ck (0 ≤ x9 ∧ x9 < 9) <| sd d 1621 x9 (w64 ((d 1621 x9) + (w32 ((w32 ((d 1545 99) - 1)) - v2)))) fun d11 => lv (w32 (v2 + 1)) fun x12 => some (Sum.inl (d11, x12)))
noncomputable def fX11_votesByRanks_16 (d : Dt) (v1 v2 : Int) : Option ((Dt × Int) ⊕ Dt) := loop (fX11_votesByRanks_16f v1) (d, v2)
noncomputable def fX11_votesByRanks_6f (s : Dt × Int) : Option ((Dt × Int) ⊕ Dt) := match s with
  | (d, v1) => (if (d 1545 102) ≤ v1 then up (some d) else fX11_votesByRanks_16 d v1 0)
noncomputable def fX11_votesByRanks_6 (d : Dt) (v1 : Int) : Option Dt := loop (fX11_votesByRanks_6f) (d, v1)
noncomputable def fX11_votesByRanks (d : Dt) : Option Dt :=
  bd (fX11_noVotes d) fun d1 => fX11_votesByRanks_6 d1 0
noncomputable def fX11_winFirst_2f (s : Dt × Int) : Option ((Dt × Int) ⊕ Dt) := match s with
  | (d, v1) => (if (d 1545 100) ≤ v1 then up (some d) else ck (0 ≤ v1 ∧ v1 < 9) <| bd (fX11_win d (d 1622 v1)) fun d3 => lv (w32 (v1 + 1)) fun x5 => some (Sum.inl (d3, x5)))
noncomputable def fX11_winFirst_2 (d : Dt) (v1 : Int) : Option Dt := loop (fX11_winFirst_2f) (d, v1)
noncomputable def fX11_winFirst (d : Dt) : Option Dt :=
  fX11_winFirst_2 d 0
noncomputable def fX11_medianOf_7f (d : Dt) (a1 a2 : Int) (s : Int × Int) : Option ((Int × Int) ⊕ Int) := match s with
  | (v2, v3) => (if v3 ≤ 0 then up (some 0) else ck (0 ≤ v3 ∧ v3 < 10) <| (if (d a1 v3) ≤ v2 then lv (w32 (v2 - (d a1 v3))) fun x5 => lv (w32 (v3 + (-1))) fun x6 => some (Sum.inl (x5, x6)) else up (some v3)))
noncomputable def fX11_medianOf_7 (d : Dt) (a1 a2 v2 v3 : Int) : Option Int := loop (fX11_medianOf_7f d a1 a2) (v2, v3)
noncomputable def fX11_medianOf (d : Dt) (a1 a2 : Int) : Option Int :=
  lv (w32 (Int.tdiv a2 2)) fun x1 => fX11_medianOf_7 d a1 a2 x1 9
noncomputable def fX11_isMedianAhead_53f (a1 a2 : Int) (s : Dt × Int) : Option ((Dt × Int) ⊕ (Dt × Int)) := match s with
  | (d, v3) => (if v3 ≤ 0 then up (b1 (fX11_lot d a1) fun x4 => b1 (fX11_lot d a2) fun x6 => (if x6 ≤ x4 then some (d, 0) else some (d, 1))) else b1 (fX11_medianOf d 1628 v3) fun x9 => b1 (fX11_medianOf d 1629 v3) fun x11 => (if x9 = x11 then ck (0 ≤ x9 ∧ x9 < 10) <| sd d 1628 x9 (w32 ((d 1628 x9) - 1)) fun d15 => ck (0 ≤ x11 ∧ x11 < 10) <| sd d15 1629 x11 (w32 ((d15 1629 x11) - 1)) fun d17 => lv (w32 (v3 + (-1))) fun x18 => some (Sum.inl (d17, x18)) else up ((if x9 ≤ x11 then some (d, 0) else some (d, 1)))))
noncomputable def fX11_isMedianAhead_53 (d : Dt) (a1 a2 v3 : Int) : Option (Dt × Int) := loop (fX11_isMedianAhead_53f a1 a2) (d, v3)
noncomputable def fX11_isMedianAhead_2f (a1 a2 : Int) (s : Dt × Int) : Option ((Dt × Int) ⊕ (Dt × Int)) := match s with
  | (d, v3) => (if 10 ≤ v3 then up (lv (d 1545 102) fun x2 => fX11_isMedianAhead_53 d a1 a2 x2) else lv (w32 ((w32 (10 * a1)) + v3)) fun x20 => ck (0 ≤ x20 ∧ x20 < 90) <| ck (0 ≤ v3 ∧ v3 < 10) <| sd d 1628 v3 (d 1627 x20) fun d23 => lv (w32 ((w32 (10 * a2)) + v3)) fun x24 => ck (0 ≤ x24 ∧ x24 < 90) <| sd d23 1629 v3 (d23 1627 x24) fun d26 => lv (w32 (v3 + 1)) fun x27 => some (Sum.inl (d26, x27)))
noncomputable def fX11_isMedianAhead_2 (d : Dt) (a1 a2 v3 : Int) : Option (Dt × Int) := loop (fX11_isMedianAhead_2f a1 a2) (d, v3)
noncomputable def fX11_isMedianAhead (d : Dt) (a1 a2 : Int) : Option (Dt × Int) :=
  fX11_isMedianAhead_2 d a1 a2 0
noncomputable def fX11_countMedian_201 (d : Dt) (v1 v2 s1 s2 s3 : Int) : Option ((Dt × Int) ⊕ ((Dt × Int) ⊕ Dt)) :=
  ck (0 ≤ s1 ∧ s1 < 9) <| sd d 1621 s1 (w64 (s2 + s3)) fun d16 => lv (w32 (v2 + 1)) fun x17 => some (Sum.inl (d16, x17))
noncomputable def fX11_countMedian_149f (v1 : Int) (s : Dt × Int) : Option ((Dt × Int) ⊕ ((Dt × Int) ⊕ Dt)) := match s with
  | (d, v2) => (if (d 1545 98) ≤ v2 then up (lv (w32 (v1 + 1)) fun x12 => some (Sum.inl (d, x12))) else ck (0 ≤ v1 ∧ v1 < 9) <| (if (d 1617 v1) = 0 then fX11_countMedian_201 d v1 v2 v1 (d 1621 v1) 0 else ck (0 ≤ v2 ∧ v2 < 9) <| (if (d 1617 v2) = 0 then fX11_countMedian_201 d v1 v2 v1 (d 1621 v1) 0 else (if v2 = v1 then fX11_countMedian_201 d v1 v2 v1 (d 1621 v1) 0 else b2 (fX11_isMedianAhead d v1 v2) fun d21 x23 => (if x23 = 0 then fX11_countMedian_201 d21 v1 v2 v1 (d 1621 v1) 0 else fX11_countMedian_201 d21 v1 v2 v1 (d 1621 v1) 1)))))
noncomputable def fX11_countMedian_149 (d : Dt) (v1 v2 : Int) : Option ((Dt × Int) ⊕ Dt) := loop (fX11_countMedian_149f v1) (d, v2)
noncomputable def fX11_countMedian_132f (s : Dt × Int) : Option ((Dt × Int) ⊕ Dt) := match s with
  | (d, v1) => (if (d 1545 98) ≤ v1 then up (bd (fX11_orderByVotes d) fun d5 => bd (fX11_winFirst d5) fun d7 => some d7) else ck (0 ≤ v1 ∧ v1 < 9) <| sd d 1621 v1 0 fun d10 => fX11_countMedian_149 d10 v1 0)
noncomputable def fX11_countMedian_132 (d : Dt) (v1 : Int) : Option Dt := loop (fX11_countMedian_132f) (d, v1)
noncomputable def fX11_countMedian_88f (v1 : Int) (s : Dt × Int) : Option ((Dt × Int) ⊕ ((Dt × Int) ⊕ Dt)) := match s with
  | (d, v2) => (if (d 1545 98) ≤ v2 then up (bd (fX11_tell d) fun d26 => lv (w32 (v1 + 1)) fun x28 => some (Sum.inl (d26, x28))) else lv (w32 ((w32 (10 * v2)) + v1)) fun x29 => ck (0 ≤ x29 ∧ x29 < 90) <| ck (0 ≤ v2 ∧ v2 < 9) <| sd d 1621 v2 (d 1627 x29) fun d32 => lv (w32 (v2 + 1)) fun x33 => some (Sum.inl (d32, x33)))
noncomputable def fX11_countMedian_88 (d : Dt) (v1 v2 : Int) : Option ((Dt × Int) ⊕ Dt) := loop (fX11_countMedian_88f v1) (d, v2)
noncomputable def fX11_countMedian_80f (s : Dt × Int) : Option ((Dt × Int) ⊕ Dt) := match s with
  | (d, v1) => (if 10 ≤ v1 then up (fX11_countMedian_132 d 0) else fX11_countMedian_88 d v1 0)
noncomputable def fX11_countMedian_80 (d : Dt) (v1 : Int) : Option Dt := loop (fX11_countMedian_80f) (d, v1)
noncomputable def fX11_countMedian_33f (v1 : Int) (s : Dt × Int) : Option ((Dt × Int) ⊕ ((Dt × Int) ⊕ Dt)) := match s with
  | (d, v2) => (if (d 1545 98) ≤ v2 then up (lv (w32 (v1 + 1)) fun x35 => some (Sum.inl (d, x35))) else lv (w32 ((w32 (9 * v1)) + v2)) fun x36 => ck (0 ≤ x36 ∧ x36 < 1800) <| lv (w32 ((w32 (10 * v2)) + (d 1618 x36))) fun x38 => ck (0 ≤ x38 ∧ x38 < 90) <| sd d 1627 x38 (w32 ((d 1627 x38) + 1)) fun d40 => lv (w32 (v2 + 1)) fun x41 => some (Sum.inl (d40, x41)))
noncomputable def fX11_countMedian_33 (d : Dt) (v1 v2 : Int) : Option ((Dt × Int) ⊕ Dt) := loop (fX11_countMedian_33f v1) (d, v2)
noncomputable def fX11_countMedian_23f (s : Dt × Int) : Option ((Dt × Int) ⊕ Dt) := match s with
  | (d, v1) => (if (d 1545 102) ≤ v1 then up (fX11_countMedian_80 d 0) else fX11_countMedian_33 d v1 0)
noncomputable def fX11_countMedian_23 (d : Dt) (v1 : Int) : Option Dt := loop (fX11_countMedian_23f) (d, v1)
noncomputable def fX11_countMedian_2f (s : Dt × Int) : Option ((Dt × Int) ⊕ Dt) := match s with
  | (d, v1) => (if 90 ≤ v1 then up (fX11_countMedian_23 d 0) else ck (0 ≤ v1 ∧ v1 < 90) <| sd d 1627 v1 0 fun d43 => lv (w32 (v1 + 1)) fun x44 => some (Sum.inl (d43, x44)))
noncomputable def fX11_countMedian_2 (d : Dt) (v1 : Int) : Option Dt := loop (fX11_countMedian_2f) (d, v1)
noncomputable def fX11_countMedian (d : Dt) : Option Dt :=
  fX11_countMedian_2 d 0
noncomputable def fX11_allIn_29 (d : Dt) (v1 s1 s2 : Int) : Option ((Dt × Int) ⊕ Dt) :=
  ck (0 ≤ s1 ∧ s1 < 9) <| sd d 1630 s1 s2 fun d5 => lv (w32 (v1 + 1)) fun x6 => some (Sum.inl (d5, x6))
noncomputable def fX11_allIn_2f (s : Dt × Int) : Option ((Dt × Int) ⊕ Dt) := match s with
  | (d, v1) => (if (d 1545 98) ≤ v1 then up (some d) else ck (0 ≤ v1 ∧ v1 < 9) <| (if (d 1617 v1) = 0 then fX11_allIn_29 d v1 v1 2 else fX11_allIn_29 d v1 v1 0))
noncomputable def fX11_allIn_2 (d : Dt) (v1 : Int) : Option Dt := loop (fX11_allIn_2f) (d, v1)
noncomputable def fX11_allIn (d : Dt) : Option Dt :=
  fX11_allIn_2 d 0
noncomputable def fX11_firstIn_2f (d : Dt) (a1 : Int) (s : Int) : Option ((Int) ⊕ Int) := (fun v2 => ck (0 ≤ a1 ∧ a1 < 200) <| (if (d 1620 a1) ≤ v2 then up (some (-1)) else lv (w32 ((w32 (9 * a1)) + v2)) fun x3 => ck (0 ≤ x3 ∧ x3 < 1800) <| lv (d 1619 x3) fun x5 => ck (0 ≤ x5 ∧ x5 < 9) <| (if (d 1630 x5) = 0 then up (lv (w32 ((w32 (9 * a1)) + v2)) fun x9 => ck (0 ≤ x9 ∧ x9 < 1800) <| some (d 1619 x9)) else lv (w32 (v2 + 1)) fun x8 => some (Sum.inl x8)))) s
noncomputable def fX11_firstIn_2 (d : Dt) (a1 v2 : Int) : Option Int := loop (fX11_firstIn_2f d a1) v2
noncomputable def fX11_firstIn (d : Dt) (a1 : Int) : Option Int :=
  fX11_firstIn_2 d a1 0
noncomputable def fX11_howManyIn_27 (d : Dt) (v2 s0 s1 : Int) : Option ((Int × Int) ⊕ Int) :=
  lv (w32 (s0 + s1)) fun x4 => lv (w32 (v2 + 1)) fun x5 => some (Sum.inl (x4, x5))
noncomputable def fX11_howManyIn_4f (d : Dt) (s : Int × Int) : Option ((Int × Int) ⊕ Int) := match s with
  | (v1, v2) => (if (d 1545 98) ≤ v2 then up (some v1) else ck (0 ≤ v2 ∧ v2 < 9) <| (if (d 1630 v2) = 0 then fX11_howManyIn_27 d v2 v1 1 else fX11_howManyIn_27 d v2 v1 0))
noncomputable def fX11_howManyIn_4 (d : Dt) (v1 v2 : Int) : Option Int := loop (fX11_howManyIn_4f d) (v1, v2)
noncomputable def fX11_howManyIn (d : Dt) : Option Int :=
  fX11_howManyIn_4 d 0 0
noncomputable def fX11_isWorse_84 (d : Dt) (a1 a2 a3 : Int) : Option Int :=
  b1 (fX11_lot d a1) fun x3 => b1 (fX11_lot d a2) fun x5 => (if x3 ≤ x5 then some 0 else some 1)
noncomputable def fX11_isWorse_28 (d : Dt) (a1 a2 a3 v4 : Int) : Option ((Int) ⊕ Int) :=
  lv (w32 ((w32 (9 * v4)) + a1)) fun x9 => ck (0 ≤ x9 ∧ x9 < 360) <| lv (d 1623 x9) fun x11 => lv (w32 ((w32 (9 * v4)) + a2)) fun x12 => ck (0 ≤ x12 ∧ x12 < 360) <| lv (d 1623 x12) fun x14 => (if (jCmp x11 x14) = 0 then lv (w32 (v4 + (-1))) fun x16 => some (Sum.inl x16) else up ((if 0 ≤ (jCmp x11 x14) then some 0 else some 1)))
noncomputable def fX11_isWorse_8f (d : Dt) (a1 a2 a3 : Int) (s : Int) : Option ((Int) ⊕ Int) := (fun v4 => (if v4 < 0 then up (fX11_isWorse_84 d a1 a2 a3) else (if a3 = 0 then (if v4 = (w32 ((d 1545 116) - 1)) then fX11_isWorse_28 d a1 a2 a3 v4 else up (fX11_isWorse_84 d a1 a2 a3)) else fX11_isWorse_28 d a1 a2 a3 v4))) s
noncomputable def fX11_isWorse_8 (d : Dt) (a1 a2 a3 v4 : Int) : Option Int := loop (fX11_isWorse_8f d a1 a2 a3) v4
noncomputable def fX11_isWorse (d : Dt) (a1 a2 a3 : Int) : Option Int :=
  lv (w32 ((d 1545 116) - 1)) fun x1 => fX11_isWorse_8 d a1 a2 a3 x1
noncomputable def fX11_acted (d : Dt) (a1 a2 : Int) : Option Dt :=
  lv (w32 ((d 1545 116) - 1)) fun x1 => ck (0 ≤ x1 ∧ x1 < 40) <| sd d 1624 x1 a1 fun d3 => lv (w32 ((d3 1545 116) - 1)) fun x4 => ck (0 ≤ x4 ∧ x4 < 40) <| sd d3 1625 x4 a2 fun d6 => some d6
noncomputable def fX11_goesOut_4f (d : Dt) (a1 : Int) (s : Int × Int) : Option ((Int × Int) ⊕ (Dt × Int)) := match s with
  | (v2, v3) => (if (d 1545 98) ≤ v3 then up (ck (0 ≤ v2 ∧ v2 < 9) <| sd d 1630 v2 2 fun d3 => bd (fX11_acted d3 2 v2) fun d4 => some (d4, v2)) else ck (0 ≤ v3 ∧ v3 < 9) <| (if (d 1630 v3) = 0 then (if v2 < 0 then lv (w32 (v3 + 1)) fun x10 => some (Sum.inl (v3, x10)) else b1 (fX11_isWorse d v3 v2 a1) fun x11 => (if x11 = 0 then lv (w32 (v3 + 1)) fun x14 => some (Sum.inl (v2, x14)) else lv (w32 (v3 + 1)) fun x15 => some (Sum.inl (v3, x15)))) else lv (w32 (v3 + 1)) fun x8 => some (Sum.inl (v2, x8))))
noncomputable def fX11_goesOut_4 (d : Dt) (a1 v2 v3 : Int) : Option (Dt × Int) := loop (fX11_goesOut_4f d a1) (v2, v3)
noncomputable def fX11_goesOut (d : Dt) (a1 : Int) : Option (Dt × Int) :=
  fX11_goesOut_4 d a1 (-1) 0
noncomputable def fX11_electFrom_19f (d : Dt) (a1 v3 : Int) (s : Int × Int) : Option ((Int × Int) ⊕ ((Dt × Int) ⊕ (Dt × Int))) := match s with
  | (v4, v5) => (if (d 1545 98) ≤ v5 then up ((if 0 ≤ v4 then ck (0 ≤ v4 ∧ v4 < 9) <| sd d 1630 v4 1 fun d5 => bd (fX11_win d5 v4) fun d6 => lv (w32 (v3 + 1)) fun x8 => some (Sum.inl (d6, x8)) else up (some (d, v3)))) else ck (0 ≤ v5 ∧ v5 < 9) <| (if (d 1630 v5) = 0 then (if 0 ≤ (jCmp (d 1621 v5) a1) then (if v4 < 0 then lv (w32 (v5 + 1)) fun x14 => some (Sum.inl (v5, x14)) else ck (0 ≤ v4 ∧ v4 < 9) <| (if 0 < (jCmp (d 1621 v5) (d 1621 v4)) then lv (w32 (v5 + 1)) fun x17 => some (Sum.inl (v5, x17)) else (if (jCmp (d 1621 v5) (d 1621 v4)) = 0 then b1 (fX11_lot d v5) fun x20 => b1 (fX11_lot d v4) fun x22 => (if x22 ≤ x20 then lv (w32 (v5 + 1)) fun x25 => some (Sum.inl (v4, x25)) else lv (w32 (v5 + 1)) fun x26 => some (Sum.inl (v5, x26))) else lv (w32 (v5 + 1)) fun x19 => some (Sum.inl (v4, x19))))) else lv (w32 (v5 + 1)) fun x27 => some (Sum.inl (v4, x27))) else lv (w32 (v5 + 1)) fun x11 => some (Sum.inl (v4, x11))))
noncomputable def fX11_electFrom_19 (d : Dt) (a1 v3 v4 v5 : Int) : Option ((Dt × Int) ⊕ (Dt × Int)) := loop (fX11_electFrom_19f d a1 v3) (v4, v5)
noncomputable def fX11_electFrom_2f (a1 : Int) (s : Dt × Int) : Option ((Dt × Int) ⊕ (Dt × Int)) := match s with
  | (d, v3) => (if (d 1545 100) ≤ (d 1545 120) then up (some (d, v3)) else fX11_electFrom_19 d a1 v3 (-1) 0)
noncomputable def fX11_electFrom_2 (d : Dt) (a1 v3 : Int) : Option (Dt × Int) := loop (fX11_electFrom_2f a1) (d, v3)
noncomputable def fX11_electFrom (d : Dt) (a1 : Int) : Option (Dt × Int) :=
  fX11_electFrom_2 d a1 0
noncomputable def fX11_countOut_70 (d : Dt) (s0 : Int) : Option ((Dt × Int) ⊕ Dt) :=
  (if s0 = 0 then b2 (fX11_electFrom d (-9223372036854775808)) fun d13 x15 => some (Sum.inl (d13, s0)) else b2 (fX11_goesOut d 1) fun d16 x18 => some (Sum.inl (d16, s0)))
noncomputable def fX11_countOut_16f (s : Dt × Int) : Option ((Dt × Int) ⊕ ((Dt × Int) ⊕ Dt)) := match s with
  | (d, v2) => (if (d 1545 102) ≤ v2 then up (bd (fX11_tell d) fun d7 => b1 (fX11_howManyIn d7) fun x9 => (if x9 ≤ (d7 1545 100) then fX11_countOut_70 d7 0 else fX11_countOut_70 d7 1)) else b1 (fX11_firstIn d v2) fun x19 => (if x19 < 0 then lv (w32 (v2 + 1)) fun x22 => some (Sum.inl (d, x22)) else ck (0 ≤ x19 ∧ x19 < 9) <| sd d 1621 x19 (w64 ((d 1621 x19) + 1)) fun d24 => lv (w32 (v2 + 1)) fun x25 => some (Sum.inl (d24, x25))))
noncomputable def fX11_countOut_16 (d : Dt) (v2 : Int) : Option ((Dt × Int) ⊕ Dt) := loop (fX11_countOut_16f) (d, v2)
noncomputable def fX11_countOut_6f (s : Dt × Int) : Option ((Dt × Int) ⊕ Dt) := match s with
  | (d, v1) => (if v1 = 0 then up (some d) else bd (fX11_noVotes d) fun d4 => fX11_countOut_16 d4 0)
noncomputable def fX11_countOut_6 (d : Dt) (v1 : Int) : Option Dt := loop (fX11_countOut_6f) (d, v1)
noncomputable def fX11_countOut (d : Dt) : Option Dt :=
  bd (fX11_allIn d) fun d1 => fX11_countOut_6 d1 1
noncomputable def fX11_up (a1 a2 : Int) : Option Int :=
  b1 (fJ9_floorDiv (w64 (-a1)) a2) fun x1 => some (w64 (-x1))
noncomputable def fX11_iterate_24f (v3 : Int) (s : Dt × Int × Int × Int) : Option ((Dt × Int × Int × Int) ⊕ ((Dt × Int × Int) ⊕ (Dt × Int))) := match s with
  | (d, v1, v4, v6) => ck (0 ≤ v3 ∧ v3 < 200) <| (if (d 1620 v3) ≤ v6 then up (lv (w32 (v3 + 1)) fun x8 => some (Sum.inl (d, v1, x8))) else lv (w32 ((w32 (9 * v3)) + v6)) fun x9 => ck (0 ≤ x9 ∧ x9 < 1800) <| lv (d 1619 x9) fun x11 => ck (0 ≤ x11 ∧ x11 < 9) <| b1 (fX11_up (w64 (v4 * (d 1635 x11))) 100000000) fun x13 => sd d 1621 x11 (w64 ((d 1621 x11) + x13)) fun d15 => lv (w64 (v4 - x13)) fun x16 => lv (w64 (v1 + x13)) fun x17 => lv (w32 (v6 + 1)) fun x18 => some (Sum.inl (d15, x17, x16, x18)))
noncomputable def fX11_iterate_24 (d : Dt) (v1 v3 v4 v6 : Int) : Option ((Dt × Int × Int) ⊕ (Dt × Int)) := loop (fX11_iterate_24f v3) (d, v1, v4, v6)
noncomputable def fX11_iterate_8f (s : Dt × Int × Int) : Option ((Dt × Int × Int) ⊕ (Dt × Int)) := match s with
  | (d, v1, v3) => (if (d 1545 102) ≤ v3 then up (lv (w32 ((d 1545 100) + 1)) fun x4 => ck (x4 ≠ 0) <| some (d, (w64 ((w64 (Int.tdiv v1 x4)) + 1)))) else fX11_iterate_24 d v1 v3 100000000 0)
noncomputable def fX11_iterate_8 (d : Dt) (v1 v3 : Int) : Option (Dt × Int) := loop (fX11_iterate_8f) (d, v1, v3)
noncomputable def fX11_iterate (d : Dt) : Option (Dt × Int) :=
  bd (fX11_noVotes d) fun d1 => fX11_iterate_8 d1 0 0
noncomputable def fX11_isThrough_35 (d : Dt) : Option (Dt × Int) :=
  (if (d 1545 120) = (d 1545 100) then some (d, 1) else some (d, 0))
noncomputable def fX11_isThrough (d : Dt) : Option (Dt × Int) :=
  (if (d 1545 100) ≤ (d 1545 120) then fX11_isThrough_35 d else b1 (fX11_howManyIn d) fun x3 => (if (w32 ((d 1545 120) + x3)) = (d 1545 100) then b2 (fX11_electFrom d (-9223372036854775808)) fun d6 x8 => fX11_isThrough_35 d6 else fX11_isThrough_35 d))
noncomputable def fX11_countMeek_232 (d : Dt) (v1 v3 v8 s1 s2 : Int) : Option ((Dt × Int) ⊕ ((Dt × Int) ⊕ Dt)) :=
  ck (0 ≤ s1 ∧ s1 < 9) <| sd d 1635 s1 s2 fun d30 => lv (w32 (v8 + 1)) fun x31 => some (Sum.inl (d30, x31))
noncomputable def fX11_countMeek_161f (v1 v3 : Int) (s : Dt × Int) : Option ((Dt × Int) ⊕ ((Dt × Int) ⊕ Dt)) := match s with
  | (d, v8) => (if (d 1545 120) ≤ v8 then up (some (Sum.inl (d, v1))) else ck (0 ≤ v8 ∧ v8 < 9) <| lv (d 1626 v8) fun x26 => ck (0 ≤ x26 ∧ x26 < 9) <| (if (jCmp (d 1621 x26) 0) ≤ 0 then fX11_countMeek_232 d v1 v3 v8 x26 (d 1635 x26) else b1 (fX11_up (w64 ((d 1635 x26) * v3)) (d 1621 x26)) fun x32 => fX11_countMeek_232 d v1 v3 v8 x26 (fJ9_min_2 100000000 x32)))
noncomputable def fX11_countMeek_161 (d : Dt) (v1 v3 v8 : Int) : Option ((Dt × Int) ⊕ Dt) := loop (fX11_countMeek_161f v1 v3) (d, v8)
noncomputable def fX11_countMeek_133 (d : Dt) (v3 : Int) : Option ((Dt × Int) ⊕ Dt) :=
  bd (fX11_tell d) fun d17 => b2 (fX11_goesOut d17 0) fun d19 x21 => ck (0 ≤ x21 ∧ x21 < 9) <| sd d19 1635 x21 0 fun d23 => fX11_countMeek_161 d23 9223372036854775807 v3 0
noncomputable def fX11_countMeek_63f (d : Dt) (v1 v3 v5 : Int) (s : Int × Int) : Option ((Int × Int) ⊕ ((Dt × Int) ⊕ Dt)) := match s with
  | (v6, v8) => (if (d 1545 120) ≤ v8 then up ((if v5 ≤ 0 then (if (jCmp v6 100) < 0 then fX11_countMeek_133 d v3 else (if (jCmp v6 v1) < 0 then fX11_countMeek_161 d v6 v3 0 else fX11_countMeek_133 d v3)) else bd (fX11_tell d) fun d35 => fX11_countMeek_161 d35 9223372036854775807 v3 0)) else ck (0 ≤ v8 ∧ v8 < 9) <| lv (d 1626 v8) fun x38 => ck (0 ≤ x38 ∧ x38 < 9) <| lv (w64 (v6 + (fJ9_max_2 0 (w64 ((d 1621 x38) - v3))))) fun x40 => lv (w32 (v8 + 1)) fun x41 => some (Sum.inl (x40, x41)))
noncomputable def fX11_countMeek_63 (d : Dt) (v1 v3 v5 v6 v8 : Int) : Option ((Dt × Int) ⊕ Dt) := loop (fX11_countMeek_63f d v1 v3 v5) (v6, v8)
noncomputable def fX11_countMeek_33f (s : Dt × Int) : Option ((Dt × Int) ⊕ Dt) := match s with
  | (d, v1) => b2 (fX11_iterate d) fun d4 x6 => b2 (fX11_electFrom d4 x6) fun d7 x9 => b2 (fX11_isThrough d7) fun d10 x12 => (if x12 = 0 then fX11_countMeek_63 d10 v1 x6 x9 0 0 else up (bd (fX11_tell d10) fun d42 => some d42))
noncomputable def fX11_countMeek_33 (d : Dt) (v1 : Int) : Option Dt := loop (fX11_countMeek_33f) (d, v1)
noncomputable def fX11_countMeek_6f (s : Dt × Int) : Option ((Dt × Int) ⊕ Dt) := match s with
  | (d, v1) => (if (d 1545 98) ≤ v1 then up (fX11_countMeek_33 d 9223372036854775807) else ck (0 ≤ v1 ∧ v1 < 9) <| sd d 1635 v1 100000000 fun d45 => lv (w32 (v1 + 1)) fun x46 => some (Sum.inl (d45, x46)))
noncomputable def fX11_countMeek_6 (d : Dt) (v1 : Int) : Option Dt := loop (fX11_countMeek_6f) (d, v1)
noncomputable def fX11_countMeek (d : Dt) : Option Dt :=
  bd (fX11_allIn d) fun d1 => fX11_countMeek_6 d1 0
noncomputable def fX11_isLesser_2f (d : Dt) (a1 a2 : Int) (s : Int) : Option ((Int) ⊕ Int) := (fun v3 => (if (d 1545 98) ≤ v3 then up (some 0) else lv (w32 ((w32 (9 * a1)) + v3)) fun x2 => ck (0 ≤ x2 ∧ x2 < 1800) <| lv (d 1618 x2) fun x4 => lv (w32 ((w32 (9 * a2)) + v3)) fun x5 => ck (0 ≤ x5 ∧ x5 < 1800) <| lv (d 1618 x5) fun x7 => (if x4 = x7 then lv (w32 (v3 + 1)) fun x9 => some (Sum.inl x9) else up ((if x7 ≤ x4 then some 0 else some 1))))) s
noncomputable def fX11_isLesser_2 (d : Dt) (a1 a2 v3 : Int) : Option Int := loop (fX11_isLesser_2f d a1 a2) v3
noncomputable def fX11_isLesser (d : Dt) (a1 a2 : Int) : Option Int :=
  fX11_isLesser_2 d a1 a2 0
noncomputable def fX11_sortBallots_52 (d : Dt) (v1 v2 : Int) : Option ((Dt × Int) ⊕ Dt) :=
  ck (0 ≤ v2 ∧ v2 < 200) <| sd d 1634 v2 v1 fun d4 => lv (w32 (v1 + 1)) fun x5 => some (Sum.inl (d4, x5))
noncomputable def fX11_sortBallots_12f (v1 : Int) (s : Dt × Int) : Option ((Dt × Int) ⊕ ((Dt × Int) ⊕ Dt)) := match s with
  | (d, v2) => (if v2 ≤ 0 then up (fX11_sortBallots_52 d v1 v2) else lv (w32 (v2 - 1)) fun x6 => ck (0 ≤ x6 ∧ x6 < 200) <| b1 (fX11_isLesser d v1 (d 1634 x6)) fun x8 => (if x8 = 0 then up (fX11_sortBallots_52 d v1 v2) else lv (w32 (v2 - 1)) fun x11 => ck (0 ≤ x11 ∧ x11 < 200) <| ck (0 ≤ v2 ∧ v2 < 200) <| sd d 1634 v2 (d 1634 x11) fun d14 => lv (w32 (v2 + (-1))) fun x15 => some (Sum.inl (d14, x15))))
noncomputable def fX11_sortBallots_12 (d : Dt) (v1 v2 : Int) : Option ((Dt × Int) ⊕ Dt) := loop (fX11_sortBallots_12f v1) (d, v2)
noncomputable def fX11_sortBallots_2f (s : Dt × Int) : Option ((Dt × Int) ⊕ Dt) := match s with
  | (d, v1) => (if (d 1545 102) ≤ v1 then up (some d) else fX11_sortBallots_12 d v1 v1)
noncomputable def fX11_sortBallots_2 (d : Dt) (v1 : Int) : Option Dt := loop (fX11_sortBallots_2f) (d, v1)
noncomputable def fX11_sortBallots (d : Dt) : Option Dt :=
  fX11_sortBallots_2 d 0
noncomputable def fX11_surplusOf_5f (d : Dt) (a1 : Int) (s : Int × Int) : Option ((Int × Int) ⊕ Int) := match s with
  | (v3, v4) => (if (d 1545 120) ≤ v4 then up (some v3) else ck (0 ≤ v4 ∧ v4 < 9) <| lv (d 1626 v4) fun x3 => ck (0 ≤ x3 ∧ x3 < 9) <| (if (d 1633 x3) = 0 then (if (jCmp (d 1621 x3) a1) ≤ 0 then lv (w32 (v4 + 1)) fun x8 => some (Sum.inl (v3, x8)) else (if v3 < 0 then lv (w32 (v4 + 1)) fun x10 => some (Sum.inl (x3, x10)) else ck (0 ≤ v3 ∧ v3 < 9) <| (if (jCmp (d 1621 x3) (d 1621 v3)) ≤ 0 then lv (w32 (v4 + 1)) fun x13 => some (Sum.inl (v3, x13)) else lv (w32 (v4 + 1)) fun x14 => some (Sum.inl (x3, x14))))) else lv (w32 (v4 + 1)) fun x6 => some (Sum.inl (v3, x6))))
noncomputable def fX11_surplusOf_5 (d : Dt) (a1 v3 v4 : Int) : Option Int := loop (fX11_surplusOf_5f d a1) (v3, v4)
noncomputable def fX11_surplusOf (d : Dt) (a1 : Int) : Option Int :=
  fX11_surplusOf_5 d a1 (-1) 0
noncomputable def fX11_givePart_3f (a1 a2 : Int) (s : Dt × Int) : Option ((Dt × Int) ⊕ Dt) := match s with
  | (d, v4) => (if (d 1545 102) ≤ v4 then up (some d) else ck (0 ≤ v4 ∧ v4 < 200) <| (if (d 1631 v4) = a1 then ck (0 ≤ a1 ∧ a1 < 9) <| lv (d 1621 a1) fun x5 => ck (x5 ≠ 0) <| sd d 1632 v4 (w64 (Int.tdiv (w64 ((d 1632 v4) * (w64 ((d 1621 a1) - a2)))) x5)) fun d7 => b1 (fX11_firstIn d7 v4) fun x8 => sd d7 1631 v4 x8 fun d10 => lv (w32 (v4 + 1)) fun x11 => some (Sum.inl (d10, x11)) else lv (w32 (v4 + 1)) fun x12 => some (Sum.inl (d, x12))))
noncomputable def fX11_givePart_3 (d : Dt) (a1 a2 v4 : Int) : Option Dt := loop (fX11_givePart_3f a1 a2) (d, v4)
noncomputable def fX11_givePart (d : Dt) (a1 a2 : Int) : Option Dt :=
  fX11_givePart_3 d a1 a2 0
noncomputable def fX11_giveSome_122 (d : Dt) (a1 a2 a3 v6 v8 v12 s0 s1 : Int) : Option ((Int × Int) ⊕ ((Dt × Int × Int) ⊕ (Dt × Int))) :=
  lv (w32 (s0 - s1)) fun x14 => lv (w32 (v12 + 1)) fun x15 => some (Sum.inl (x14, x15))
noncomputable def fX11_giveSome_99 (d : Dt) (a1 a2 a3 v6 v8 v11 v12 : Int) : Option ((Int × Int) ⊕ ((Dt × Int × Int) ⊕ (Dt × Int))) :=
  ck (0 ≤ v12 ∧ v12 < 200) <| lv (d 1634 v12) fun x11 => ck (0 ≤ x11 ∧ x11 < 200) <| (if (d 1631 x11) = a1 then fX11_giveSome_122 d a1 a2 a3 v6 v8 v12 v11 1 else fX11_giveSome_122 d a1 a2 a3 v6 v8 v12 v11 0)
noncomputable def fX11_giveSome_78f (d : Dt) (a1 a2 a3 v6 v8 : Int) (s : Int × Int) : Option ((Int × Int) ⊕ ((Dt × Int × Int) ⊕ (Dt × Int))) := match s with
  | (v11, v12) => ck (0 ≤ v12 ∧ v12 < 200) <| lv (d 1634 v12) fun x7 => ck (0 ≤ x7 ∧ x7 < 200) <| (if (d 1631 x7) = a1 then (if v11 ≤ 0 then up (b1 (fX11_firstIn d (d 1634 v12)) fun x17 => lv (d 1634 v12) fun x19 => ck (0 ≤ x19 ∧ x19 < 200) <| sd d 1631 x19 x17 fun d21 => lv (w64 (v8 + 1)) fun x22 => some (Sum.inl (d21, v6, x22))) else fX11_giveSome_99 d a1 a2 a3 v6 v8 v11 v12) else fX11_giveSome_99 d a1 a2 a3 v6 v8 v11 v12)
noncomputable def fX11_giveSome_78 (d : Dt) (a1 a2 a3 v6 v8 v11 v12 : Int) : Option ((Dt × Int × Int) ⊕ (Dt × Int)) := loop (fX11_giveSome_78f d a1 a2 a3 v6 v8) (v11, v12)
noncomputable def fX11_giveSome_54 (d : Dt) (a1 a2 a3 v6 v8 v11 s0 s1 : Int) : Option ((Int × Int) ⊕ ((Dt × Int × Int) ⊕ (Dt × Int))) :=
  lv (w32 (s0 + s1)) fun x25 => lv (w32 (v11 + 1)) fun x26 => some (Sum.inl (x25, x26))
noncomputable def fX11_giveSome_27f (d : Dt) (a1 a2 a3 v6 v8 : Int) (s : Int × Int) : Option ((Int × Int) ⊕ ((Dt × Int × Int) ⊕ (Dt × Int))) := match s with
  | (v10, v11) => (if (d 1545 102) ≤ v11 then up (ck (v10 ≠ 0) <| lv (w32 (Int.tmod (jUshr v6 33) v10)) fun x5 => fX11_giveSome_78 d a1 a2 a3 v6 v8 x5 0) else ck (0 ≤ v11 ∧ v11 < 200) <| (if (d 1631 v11) = a1 then fX11_giveSome_54 d a1 a2 a3 v6 v8 v11 v10 1 else fX11_giveSome_54 d a1 a2 a3 v6 v8 v11 v10 0))
noncomputable def fX11_giveSome_27 (d : Dt) (a1 a2 a3 v6 v8 v10 v11 : Int) : Option ((Dt × Int × Int) ⊕ (Dt × Int)) := loop (fX11_giveSome_27f d a1 a2 a3 v6 v8) (v10, v11)
noncomputable def fX11_giveSome_7f (a1 a2 a3 : Int) (s : Dt × Int × Int) : Option ((Dt × Int × Int) ⊕ (Dt × Int)) := match s with
  | (d, v6, v8) => (if 0 ≤ (jCmp v8 a2) then up (some (d, v6)) else lv (fX11_nextOf v6) fun x2 => fX11_giveSome_27 d a1 a2 a3 x2 v8 0 0)
noncomputable def fX11_giveSome_7 (d : Dt) (a1 a2 a3 v6 v8 : Int) : Option (Dt × Int) := loop (fX11_giveSome_7f a1 a2 a3) (d, v6, v8)
noncomputable def fX11_giveSome (d : Dt) (a1 a2 a3 : Int) : Option (Dt × Int) :=
  fX11_giveSome_7 d a1 a2 a3 a3 0
noncomputable def fX11_countTransfer_321 (d : Dt) (a1 v4 v6 v10 v11 s1 s2 : Int) : Option ((Dt × Int) ⊕ ((Dt × Int) ⊕ Dt)) :=
  ck (0 ≤ s1 ∧ s1 < 200) <| sd d 1631 s1 s2 fun d48 => lv (w32 (v11 + 1)) fun x49 => some (Sum.inl (d48, x49))
noncomputable def fX11_countTransfer_278f (a1 v4 v6 v10 : Int) (s : Dt × Int) : Option ((Dt × Int) ⊕ ((Dt × Int) ⊕ Dt)) := match s with
  | (d, v11) => (if (d 1545 102) ≤ v11 then up (some (Sum.inl (d, v6))) else ck (0 ≤ v11 ∧ v11 < 200) <| (if (d 1631 v11) = v10 then b1 (fX11_firstIn d v11) fun x50 => fX11_countTransfer_321 d a1 v4 v6 v10 v11 v11 x50 else fX11_countTransfer_321 d a1 v4 v6 v10 v11 v11 (d 1631 v11)))
noncomputable def fX11_countTransfer_278 (d : Dt) (a1 v4 v6 v10 v11 : Int) : Option ((Dt × Int) ⊕ Dt) := loop (fX11_countTransfer_278f a1 v4 v6 v10) (d, v11)
noncomputable def fX11_countTransfer_228 (d : Dt) (a1 v4 v6 v8 s1 s2 : Int) : Option ((Dt × Int) ⊕ ((Dt × Int) ⊕ Dt)) :=
  ck (0 ≤ s1 ∧ s1 < 9) <| sd d 1621 s1 s2 fun d55 => lv (w32 (v8 + 1)) fun x56 => some (Sum.inl (d55, x56))
noncomputable def fX11_countTransfer_191f (a1 v4 v6 : Int) (s : Dt × Int) : Option ((Dt × Int) ⊕ ((Dt × Int) ⊕ Dt)) := match s with
  | (d, v8) => (if (d 1545 98) ≤ v8 then up (bd (fX11_tell d) fun d19 => b2 (fX11_electFrom d19 v4) fun d21 x23 => b2 (fX11_isThrough d21) fun d24 x26 => (if x26 = 0 then b1 (fX11_surplusOf d24 v4) fun x28 => (if 0 ≤ x28 then ck (0 ≤ x28 ∧ x28 < 9) <| sd d24 1633 x28 (1 % 2) fun d32 => bd (fX11_acted d32 1 x28) fun d33 => (if a1 = 0 then bd (fX11_givePart d33 x28 v4) fun d39 => some (Sum.inl (d39, v6)) else b2 (fX11_giveSome d33 x28 (w64 ((d33 1621 x28) - v4)) v6) fun d36 x38 => some (Sum.inl (d36, x38))) else b2 (fX11_goesOut d24 1) fun d41 x43 => fX11_countTransfer_278 d41 a1 v4 v6 x43 0) else up (some d24))) else ck (0 ≤ v8 ∧ v8 < 9) <| (if (d 1633 v8) = 0 then fX11_countTransfer_228 d a1 v4 v6 v8 v8 (d 1621 v8) else fX11_countTransfer_228 d a1 v4 v6 v8 v8 v4))
noncomputable def fX11_countTransfer_191 (d : Dt) (a1 v4 v6 v8 : Int) : Option ((Dt × Int) ⊕ Dt) := loop (fX11_countTransfer_191f a1 v4 v6) (d, v8)
noncomputable def fX11_countTransfer_141f (a1 v4 v6 : Int) (s : Dt × Int) : Option ((Dt × Int) ⊕ ((Dt × Int) ⊕ Dt)) := match s with
  | (d, v8) => (if (d 1545 102) ≤ v8 then up (fX11_countTransfer_191 d a1 v4 v6 0) else ck (0 ≤ v8 ∧ v8 < 200) <| (if (d 1631 v8) < 0 then lv (w32 (v8 + 1)) fun x59 => some (Sum.inl (d, x59)) else lv (d 1631 v8) fun x60 => ck (0 ≤ x60 ∧ x60 < 9) <| sd d 1621 x60 (w64 ((d 1621 x60) + (d 1632 v8))) fun d62 => lv (w32 (v8 + 1)) fun x63 => some (Sum.inl (d62, x63))))
noncomputable def fX11_countTransfer_141 (d : Dt) (a1 v4 v6 v8 : Int) : Option ((Dt × Int) ⊕ Dt) := loop (fX11_countTransfer_141f a1 v4 v6) (d, v8)
noncomputable def fX11_countTransfer_134f (a1 v4 : Int) (s : Dt × Int) : Option ((Dt × Int) ⊕ Dt) := match s with
  | (d, v6) => bd (fX11_noVotes d) fun d15 => fX11_countTransfer_141 d15 a1 v4 v6 0
noncomputable def fX11_countTransfer_134 (d : Dt) (a1 v4 v6 : Int) : Option Dt := loop (fX11_countTransfer_134f a1 v4) (d, v6)
noncomputable def fX11_countTransfer_98f (a1 v2 v4 v6 : Int) (s : Dt × Int) : Option ((Dt × Int) ⊕ Dt) := match s with
  | (d, v8) => (if (d 1545 102) ≤ v8 then up (fX11_countTransfer_134 d a1 v4 v6) else ck (0 ≤ v8 ∧ v8 < 200) <| sd d 1632 v8 v2 fun d65 => b1 (fX11_firstIn d65 v8) fun x66 => sd d65 1631 v8 x66 fun d68 => lv (w32 (v8 + 1)) fun x69 => some (Sum.inl (d68, x69)))
noncomputable def fX11_countTransfer_98 (d : Dt) (a1 v2 v4 v6 v8 : Int) : Option Dt := loop (fX11_countTransfer_98f a1 v2 v4 v6) (d, v8)
noncomputable def fX11_countTransfer_72f (a1 v2 v4 v6 : Int) (s : Dt × Int) : Option ((Dt × Int) ⊕ Dt) := match s with
  | (d, v8) => (if (d 1545 98) ≤ v8 then up (fX11_countTransfer_98 d a1 v2 v4 v6 0) else ck (0 ≤ v8 ∧ v8 < 9) <| sd d 1633 v8 (0 % 2) fun d71 => lv (w32 (v8 + 1)) fun x72 => some (Sum.inl (d71, x72)))
noncomputable def fX11_countTransfer_72 (d : Dt) (a1 v2 v4 v6 v8 : Int) : Option Dt := loop (fX11_countTransfer_72f a1 v2 v4 v6) (d, v8)
noncomputable def fX11_countTransfer_50 (d : Dt) (a1 v2 s0 s1 : Int) : Option Dt :=
  lv (w64 (s0 * s1)) fun x7 => lv (d 1545 97) fun x8 => bd (fX11_allIn d) fun d9 => bd (fX11_sortBallots d9) fun d11 => fX11_countTransfer_72 d11 a1 v2 x7 x8 0
noncomputable def fX11_countTransfer_11 (d : Dt) (a1 s0 : Int) : Option Dt :=
  b1 (fX11_contestIs d (d 1545 97) 3) fun x2 => (if x2 = 0 then lv (d 1545 100) fun x73 => ck (x73 ≠ 0) <| fX11_countTransfer_50 d a1 s0 s0 (w32 (Int.tdiv (d 1545 102) x73)) else lv (w32 ((d 1545 100) + 1)) fun x5 => ck (x5 ≠ 0) <| fX11_countTransfer_50 d a1 s0 s0 (w32 ((w32 (Int.tdiv (d 1545 102) x5)) + 1)))
noncomputable def fX11_countTransfer (d : Dt) (a1 : Int) : Option Dt :=
  (if a1 = 0 then fX11_countTransfer_11 d a1 1000000 else fX11_countTransfer_11 d a1 1)
noncomputable def fX11_margin (d : Dt) (a1 a2 : Int) : Option Int :=
  lv (w32 ((w32 (9 * a1)) + a2)) fun x1 => ck (0 ≤ x1 ∧ x1 < 81) <| lv (w32 ((w32 (9 * a2)) + a1)) fun x3 => ck (0 ≤ x3 ∧ x3 < 81) <| some (w32 ((d 1636 x1) - (d 1636 x3)))
noncomputable def fX11_beats (d : Dt) (a1 a2 : Int) : Option Int :=
  lv (w32 ((w32 (9 * a1)) + a2)) fun x1 => ck (0 ≤ x1 ∧ x1 < 81) <| lv (w32 ((w32 (9 * a2)) + a1)) fun x3 => ck (0 ≤ x3 ∧ x3 < 81) <| (if (d 1636 x1) ≤ (d 1636 x3) then some 0 else some 1)
noncomputable def fX11_isDuelAhead (d : Dt) (a1 a2 : Int) : Option Int :=
  lv (w32 (Int.tdiv a1 9)) fun x1 => lv (Int.tmod a1 9) fun x2 => lv (w32 (Int.tdiv a2 9)) fun x3 => lv (Int.tmod a2 9) fun x4 => b1 (fX11_margin d x1 x2) fun x5 => b1 (fX11_margin d x3 x4) fun x7 => (if x5 = x7 then ck (0 ≤ a1 ∧ a1 < 81) <| ck (0 ≤ a2 ∧ a2 < 81) <| (if (d 1636 a1) = (d 1636 a2) then (if x1 = x3 then b1 (fX11_lot d x2) fun x14 => b1 (fX11_lot d x4) fun x16 => (if x16 ≤ x14 then some 0 else some 1) else b1 (fX11_lot d x1) fun x19 => b1 (fX11_lot d x3) fun x21 => (if x21 ≤ x19 then some 0 else some 1)) else (if (d 1636 a1) ≤ (d 1636 a2) then some 0 else some 1)) else b1 (fX11_margin d x1 x2) fun x25 => b1 (fX11_margin d x3 x4) fun x27 => (if x25 ≤ x27 then some 0 else some 1))
noncomputable def fX11_keepPairs_303 (d : Dt) (v1 v2 v3 v4 v5 v6 s1 s2 s3 : Int) : Option ((Dt × Int) ⊕ ((Dt × Int) ⊕ ((Dt × Int) ⊕ Dt))) :=
  ck (0 ≤ s1 ∧ s1 < 81) <| sd d 1639 s1 ((bOr s2 s3) % 2) fun d23 => lv (w32 (v6 + 1)) fun x24 => some (Sum.inl (d23, x24))
noncomputable def fX11_keepPairs_244f (v1 v2 v3 v4 v5 : Int) (s : Dt × Int) : Option ((Dt × Int) ⊕ ((Dt × Int) ⊕ ((Dt × Int) ⊕ Dt))) := match s with
  | (d, v6) => (if (d 1545 98) ≤ v6 then up (lv (w32 (v5 + 1)) fun x16 => some (Sum.inl (d, x16))) else lv (w32 ((w32 (9 * v5)) + v6)) fun x17 => ck (0 ≤ x17 ∧ x17 < 81) <| lv (w32 ((w32 (9 * v5)) + v3)) fun x19 => ck (0 ≤ x19 ∧ x19 < 81) <| (if (d 1639 x19) = 0 then fX11_keepPairs_303 d v1 v2 v3 v4 v5 v6 x17 (d 1639 x17) 0 else lv (w32 ((w32 (9 * v4)) + v6)) fun x25 => ck (0 ≤ x25 ∧ x25 < 81) <| (if (d 1639 x25) = 0 then fX11_keepPairs_303 d v1 v2 v3 v4 v5 v6 x17 (d 1639 x17) 0 else fX11_keepPairs_303 d v1 v2 v3 v4 v5 v6 x17 (d 1639 x17) 1)))
noncomputable def fX11_keepPairs_244 (d : Dt) (v1 v2 v3 v4 v5 v6 : Int) : Option ((Dt × Int) ⊕ ((Dt × Int) ⊕ Dt)) := loop (fX11_keepPairs_244f v1 v2 v3 v4 v5) (d, v6)
noncomputable def fX11_keepPairs_232f (v1 v2 v3 v4 : Int) (s : Dt × Int) : Option ((Dt × Int) ⊕ ((Dt × Int) ⊕ Dt)) := match s with
  | (d, v5) => (if (d 1545 98) ≤ v5 then up (lv (w32 (v2 + 1)) fun x14 => some (Sum.inl (d, x14))) else fX11_keepPairs_244 d v1 v2 v3 v4 v5 0)
noncomputable def fX11_keepPairs_232 (d : Dt) (v1 v2 v3 v4 v5 : Int) : Option ((Dt × Int) ⊕ Dt) := loop (fX11_keepPairs_232f v1 v2 v3 v4) (d, v5)
noncomputable def fX11_keepPairs_173f (v1 : Int) (s : Dt × Int) : Option ((Dt × Int) ⊕ Dt) := match s with
  | (d, v2) => (if v1 ≤ v2 then up (some d) else ck (0 ≤ v2 ∧ v2 < 81) <| lv (w32 (Int.tdiv (d 1640 v2) 9)) fun x5 => lv (Int.tmod (d 1640 v2) 9) fun x6 => lv (w32 ((w32 (9 * x6)) + x5)) fun x7 => ck (0 ≤ x7 ∧ x7 < 81) <| (if (d 1639 x7) = 0 then lv (d 1640 v2) fun x10 => ck (0 ≤ x10 ∧ x10 < 81) <| sd d 1638 x10 (1 % 2) fun d12 => fX11_keepPairs_232 d12 v1 v2 x5 x6 0 else lv (w32 (v2 + 1)) fun x28 => some (Sum.inl (d, x28))))
noncomputable def fX11_keepPairs_173 (d : Dt) (v1 v2 : Int) : Option Dt := loop (fX11_keepPairs_173f v1) (d, v2)
noncomputable def fX11_keepPairs_143 (d : Dt) (v1 v2 v3 v4 : Int) : Option ((Dt × Int × Int) ⊕ ((Dt × Int × Int) ⊕ Dt)) :=
  ck (0 ≤ v4 ∧ v4 < 81) <| sd d 1640 v4 (w32 ((w32 (9 * v2)) + v3)) fun d42 => lv (w32 (v1 + 1)) fun x43 => lv (w32 (v3 + 1)) fun x44 => some (Sum.inl (d42, x43, x44))
noncomputable def fX11_keepPairs_94f (v1 v2 v3 : Int) (s : Dt × Int) : Option ((Dt × Int) ⊕ ((Dt × Int × Int) ⊕ ((Dt × Int × Int) ⊕ Dt))) := match s with
  | (d, v4) => (if v4 ≤ 0 then up (fX11_keepPairs_143 d v1 v2 v3 v4) else lv (w32 (v4 - 1)) fun x45 => ck (0 ≤ x45 ∧ x45 < 81) <| b1 (fX11_isDuelAhead d (w32 ((w32 (9 * v2)) + v3)) (d 1640 x45)) fun x47 => (if x47 = 0 then up (fX11_keepPairs_143 d v1 v2 v3 v4) else lv (w32 (v4 - 1)) fun x50 => ck (0 ≤ x50 ∧ x50 < 81) <| ck (0 ≤ v4 ∧ v4 < 81) <| sd d 1640 v4 (d 1640 x50) fun d53 => lv (w32 (v4 + (-1))) fun x54 => some (Sum.inl (d53, x54))))
noncomputable def fX11_keepPairs_94 (d : Dt) (v1 v2 v3 v4 : Int) : Option ((Dt × Int × Int) ⊕ ((Dt × Int × Int) ⊕ Dt)) := loop (fX11_keepPairs_94f v1 v2 v3) (d, v4)
noncomputable def fX11_keepPairs_53f (v2 : Int) (s : Dt × Int × Int) : Option ((Dt × Int × Int) ⊕ ((Dt × Int × Int) ⊕ Dt)) := match s with
  | (d, v1, v3) => (if (d 1545 98) ≤ v3 then up (lv (w32 (v2 + 1)) fun x30 => some (Sum.inl (d, v1, x30))) else ck (0 ≤ v2 ∧ v2 < 9) <| (if (d 1617 v2) = 0 then lv (w32 (v3 + 1)) fun x33 => some (Sum.inl (d, v1, x33)) else ck (0 ≤ v3 ∧ v3 < 9) <| (if (d 1617 v3) = 0 then lv (w32 (v3 + 1)) fun x36 => some (Sum.inl (d, v1, x36)) else b1 (fX11_beats d v2 v3) fun x37 => (if x37 = 0 then lv (w32 (v3 + 1)) fun x55 => some (Sum.inl (d, v1, x55)) else fX11_keepPairs_94 d v1 v2 v3 v1))))
noncomputable def fX11_keepPairs_53 (d : Dt) (v1 v2 v3 : Int) : Option ((Dt × Int × Int) ⊕ Dt) := loop (fX11_keepPairs_53f v2) (d, v1, v3)
noncomputable def fX11_keepPairs_43f (s : Dt × Int × Int) : Option ((Dt × Int × Int) ⊕ Dt) := match s with
  | (d, v1, v2) => (if (d 1545 98) ≤ v2 then up (fX11_keepPairs_173 d v1 0) else fX11_keepPairs_53 d v1 v2 0)
noncomputable def fX11_keepPairs_43 (d : Dt) (v1 v2 : Int) : Option Dt := loop (fX11_keepPairs_43f) (d, v1, v2)
noncomputable def fX11_keepPairs_34 (d : Dt) (v1 v2 s1 s2 : Int) : Option ((Dt × Int) ⊕ Dt) :=
  ck (0 ≤ s1 ∧ s1 < 81) <| sd d 1639 s1 (s2 % 2) fun d60 => lv (w32 (v2 + 1)) fun x61 => some (Sum.inl (d60, x61))
noncomputable def fX11_keepPairs_4f (v1 : Int) (s : Dt × Int) : Option ((Dt × Int) ⊕ Dt) := match s with
  | (d, v2) => (if 81 ≤ v2 then up (fX11_keepPairs_43 d v1 0) else ck (0 ≤ v2 ∧ v2 < 81) <| sd d 1638 v2 (0 % 2) fun d57 => (if (Int.tmod v2 10) = 0 then fX11_keepPairs_34 d57 v1 v2 v2 1 else fX11_keepPairs_34 d57 v1 v2 v2 0))
noncomputable def fX11_keepPairs_4 (d : Dt) (v1 v2 : Int) : Option Dt := loop (fX11_keepPairs_4f v1) (d, v2)
noncomputable def fX11_keepPairs (d : Dt) : Option Dt :=
  fX11_keepPairs_4 d 0 0
noncomputable def fX11_findWays_107f (v1 v2 : Int) (s : Dt × Int) : Option ((Dt × Int) ⊕ ((Dt × Int) ⊕ ((Dt × Int) ⊕ Dt))) := match s with
  | (d, v3) => (if (d 1545 98) ≤ v3 then up (lv (w32 (v2 + 1)) fun x6 => some (Sum.inl (d, x6))) else lv (w32 ((w32 (9 * v2)) + v1)) fun x7 => ck (0 ≤ x7 ∧ x7 < 81) <| lv (w32 ((w32 (9 * v1)) + v3)) fun x9 => ck (0 ≤ x9 ∧ x9 < 81) <| lv (fJ9_min (d 1637 x7) (d 1637 x9)) fun x11 => lv (w32 ((w32 (9 * v2)) + v3)) fun x12 => ck (0 ≤ x12 ∧ x12 < 81) <| lv (w32 ((w32 (9 * v2)) + v3)) fun x14 => ck (0 ≤ x14 ∧ x14 < 81) <| sd d 1637 x14 (fJ9_max (d 1637 x12) x11) fun d16 => lv (w32 (v3 + 1)) fun x17 => some (Sum.inl (d16, x17)))
noncomputable def fX11_findWays_107 (d : Dt) (v1 v2 v3 : Int) : Option ((Dt × Int) ⊕ ((Dt × Int) ⊕ Dt)) := loop (fX11_findWays_107f v1 v2) (d, v3)
noncomputable def fX11_findWays_97f (v1 : Int) (s : Dt × Int) : Option ((Dt × Int) ⊕ ((Dt × Int) ⊕ Dt)) := match s with
  | (d, v2) => (if (d 1545 98) ≤ v2 then up (lv (w32 (v1 + 1)) fun x4 => some (Sum.inl (d, x4))) else fX11_findWays_107 d v1 v2 0)
noncomputable def fX11_findWays_97 (d : Dt) (v1 v2 : Int) : Option ((Dt × Int) ⊕ Dt) := loop (fX11_findWays_97f v1) (d, v2)
noncomputable def fX11_findWays_87f (s : Dt × Int) : Option ((Dt × Int) ⊕ Dt) := match s with
  | (d, v1) => (if (d 1545 98) ≤ v1 then up (some d) else fX11_findWays_97 d v1 0)
noncomputable def fX11_findWays_87 (d : Dt) (v1 : Int) : Option Dt := loop (fX11_findWays_87f) (d, v1)
noncomputable def fX11_findWays_72 (d : Dt) (v1 v2 s1 s2 : Int) : Option ((Dt × Int) ⊕ ((Dt × Int) ⊕ Dt)) :=
  ck (0 ≤ s1 ∧ s1 < 81) <| sd d 1637 s1 s2 fun d23 => lv (w32 (v2 + 1)) fun x24 => some (Sum.inl (d23, x24))
noncomputable def fX11_findWays_12f (v1 : Int) (s : Dt × Int) : Option ((Dt × Int) ⊕ ((Dt × Int) ⊕ Dt)) := match s with
  | (d, v2) => (if (d 1545 98) ≤ v2 then up (lv (w32 (v1 + 1)) fun x19 => some (Sum.inl (d, x19))) else ck (0 ≤ v1 ∧ v1 < 9) <| (if (d 1617 v1) = 0 then fX11_findWays_72 d v1 v2 (w32 ((w32 (9 * v1)) + v2)) 0 else ck (0 ≤ v2 ∧ v2 < 9) <| (if (d 1617 v2) = 0 then fX11_findWays_72 d v1 v2 (w32 ((w32 (9 * v1)) + v2)) 0 else b1 (fX11_beats d v1 v2) fun x27 => (if x27 = 0 then fX11_findWays_72 d v1 v2 (w32 ((w32 (9 * v1)) + v2)) 0 else lv (w32 ((w32 (9 * v1)) + v2)) fun x30 => ck (0 ≤ x30 ∧ x30 < 81) <| fX11_findWays_72 d v1 v2 (w32 ((w32 (9 * v1)) + v2)) (d 1636 x30)))))
noncomputable def fX11_findWays_12 (d : Dt) (v1 v2 : Int) : Option ((Dt × Int) ⊕ Dt) := loop (fX11_findWays_12f v1) (d, v2)
noncomputable def fX11_findWays_2f (s : Dt × Int) : Option ((Dt × Int) ⊕ Dt) := match s with
  | (d, v1) => (if (d 1545 98) ≤ v1 then up (fX11_findWays_87 d 0) else fX11_findWays_12 d v1 0)
noncomputable def fX11_findWays_2 (d : Dt) (v1 : Int) : Option Dt := loop (fX11_findWays_2f) (d, v1)
noncomputable def fX11_findWays (d : Dt) : Option Dt :=
  fX11_findWays_2 d 0
noncomputable def fX11_covers_10f (d : Dt) (a1 a2 : Int) (s : Int × Int) : Option ((Int × Int) ⊕ Int) := match s with
  | (v3, v4) => (if (d 1545 98) ≤ v4 then up ((ck (v3 = 0 ∨ v3 = 1) <| some v3)) else (if v3 = 0 then up ((ck (v3 = 0 ∨ v3 = 1) <| some v3)) else ck (0 ≤ v4 ∧ v4 < 9) <| (if (d 1630 v4) = 0 then b1 (fX11_beats d a2 v4) fun x8 => (if x8 = 0 then lv (w32 (v4 + 1)) fun x11 => some (Sum.inl (1, x11)) else b1 (fX11_beats d a1 v4) fun x12 => (if x12 = 0 then lv (w32 (v4 + 1)) fun x15 => some (Sum.inl (0, x15)) else lv (w32 (v4 + 1)) fun x16 => some (Sum.inl (1, x16)))) else lv (w32 (v4 + 1)) fun x7 => some (Sum.inl (1, x7)))))
noncomputable def fX11_covers_10 (d : Dt) (a1 a2 v3 v4 : Int) : Option Int := loop (fX11_covers_10f d a1 a2) (v3, v4)
noncomputable def fX11_covers (d : Dt) (a1 a2 : Int) : Option Int :=
  b1 (fX11_beats d a1 a2) fun x1 => fX11_covers_10 d a1 a2 x1 0
noncomputable def fX11_isUnder_92 (d : Dt) (a1 a2 v3 s0 : Int) : Option ((Int) ⊕ Int) :=
  (if s0 = 0 then lv (w32 (v3 + 1)) fun x11 => some (Sum.inl x11) else up (some 1))
noncomputable def fX11_isUnder_2f (d : Dt) (a1 a2 : Int) (s : Int) : Option ((Int) ⊕ Int) := (fun v3 => (if (d 1545 98) ≤ v3 then up (some 0) else ck (0 ≤ v3 ∧ v3 < 9) <| (if (d 1630 v3) = 0 then (if v3 = a1 then lv (w32 (v3 + 1)) fun x19 => some (Sum.inl x19) else (if a2 = 8 then lv (w32 ((w32 (9 * v3)) + a1)) fun x17 => ck (0 ≤ x17 ∧ x17 < 81) <| fX11_isUnder_92 d a1 a2 v3 (d 1638 x17) else (if a2 = 9 then lv (w32 ((w32 (9 * v3)) + a1)) fun x12 => ck (0 ≤ x12 ∧ x12 < 81) <| lv (w32 ((w32 (9 * a1)) + v3)) fun x14 => ck (0 ≤ x14 ∧ x14 < 81) <| (if (d 1637 x12) ≤ (d 1637 x14) then fX11_isUnder_92 d a1 a2 v3 0 else fX11_isUnder_92 d a1 a2 v3 1) else b1 (fX11_covers d v3 a1) fun x8 => fX11_isUnder_92 d a1 a2 v3 x8))) else lv (w32 (v3 + 1)) fun x4 => some (Sum.inl x4)))) s
noncomputable def fX11_isUnder_2 (d : Dt) (a1 a2 v3 : Int) : Option Int := loop (fX11_isUnder_2f d a1 a2) v3
noncomputable def fX11_isUnder (d : Dt) (a1 a2 : Int) : Option Int :=
  fX11_isUnder_2 d a1 a2 0
noncomputable def fX11_scoreOf_53 (d : Dt) (a1 v3 s0 s1 : Int) : Option ((Int × Int) ⊕ Int) :=
  lv (w32 (s0 + s1)) fun x10 => lv (w32 (v3 + 1)) fun x11 => some (Sum.inl (x10, x11))
noncomputable def fX11_scoreOf_4f (d : Dt) (a1 : Int) (s : Int × Int) : Option ((Int × Int) ⊕ Int) := match s with
  | (v2, v3) => (if (d 1545 98) ≤ v3 then up (some v2) else ck (0 ≤ v3 ∧ v3 < 9) <| (if (d 1630 v3) = 0 then b1 (fX11_beats d a1 v3) fun x4 => (if x4 = 0 then b1 (fX11_beats d v3 a1) fun x7 => (if x7 = 0 then fX11_scoreOf_53 d a1 v3 v2 0 else fX11_scoreOf_53 d a1 v3 v2 (-1)) else fX11_scoreOf_53 d a1 v3 v2 1) else fX11_scoreOf_53 d a1 v3 v2 0))
noncomputable def fX11_scoreOf_4 (d : Dt) (a1 v2 v3 : Int) : Option Int := loop (fX11_scoreOf_4f d a1) (v2, v3)
noncomputable def fX11_scoreOf (d : Dt) (a1 : Int) : Option Int :=
  fX11_scoreOf_4 d a1 0 0
noncomputable def fX11_nextBy_84 (d : Dt) (a1 v4 v5 v6 : Int) : Option ((Int × Int × Int) ⊕ Int) :=
  lv (w32 (v4 + 1)) fun x13 => some (Sum.inl (v5, v6, x13))
noncomputable def fX11_nextBy_72 (d : Dt) (a1 v2 v3 v4 v5 s0 : Int) : Option ((Int × Int × Int) ⊕ Int) :=
  (if v2 < 0 then fX11_nextBy_84 d a1 v4 v5 s0 else (if s0 ≤ v3 then lv (w32 (v4 + 1)) fun x15 => some (Sum.inl (v2, v3, x15)) else fX11_nextBy_84 d a1 v4 v5 s0))
noncomputable def fX11_nextBy_7f (d : Dt) (a1 : Int) (s : Int × Int × Int) : Option ((Int × Int × Int) ⊕ Int) := match s with
  | (v2, v3, v4) => (if (d 1545 98) ≤ v4 then up (some v2) else lv (w32 ((w32 (9 * (d 1545 97))) + v4)) fun x2 => ck (0 ≤ x2 ∧ x2 < 54) <| lv (d 1592 x2) fun x4 => ck (0 ≤ x4 ∧ x4 < 9) <| (if (d 1630 x4) = 0 then b1 (fX11_isUnder d x4 a1) fun x8 => (if x8 = 0 then (if a1 = 10 then b1 (fX11_scoreOf d x4) fun x16 => fX11_nextBy_72 d a1 v2 v3 v4 x4 x16 else fX11_nextBy_72 d a1 v2 v3 v4 x4 0) else lv (w32 (v4 + 1)) fun x18 => some (Sum.inl (v2, v3, x18))) else lv (w32 (v4 + 1)) fun x7 => some (Sum.inl (v2, v3, x7))))
noncomputable def fX11_nextBy_7 (d : Dt) (a1 v2 v3 v4 : Int) : Option Int := loop (fX11_nextBy_7f d a1) (v2, v3, v4)
noncomputable def fX11_nextBy (d : Dt) (a1 : Int) : Option Int :=
  fX11_nextBy_7 d a1 (-1) 0 0
noncomputable def fX11_countPairs_261f (a1 : Int) (s : Dt) : Option ((Dt) ⊕ Dt) := (fun d => (if (d 1545 100) ≤ (d 1545 120) then up (some d) else b1 (fX11_nextBy d a1) fun x8 => ck (0 ≤ x8 ∧ x8 < 9) <| sd d 1630 x8 1 fun d11 => bd (fX11_win d11 x8) fun d12 => some (Sum.inl d12))) s
noncomputable def fX11_countPairs_261 (d : Dt) (a1 : Int) : Option Dt := loop (fX11_countPairs_261f a1) d
noncomputable def fX11_countPairs_257 (d : Dt) (a1 : Int) : Option Dt :=
  bd (fX11_allIn d) fun d5 => fX11_countPairs_261 d5 a1
noncomputable def fX11_countPairs_247 (d : Dt) (a1 : Int) : Option Dt :=
  (if a1 = 9 then bd (fX11_findWays d) fun d14 => fX11_countPairs_257 d14 a1 else fX11_countPairs_257 d a1)
noncomputable def fX11_countPairs_215 (d : Dt) (a1 v2 v3 s1 s2 : Int) : Option ((Dt × Int) ⊕ ((Dt × Int) ⊕ Dt)) :=
  ck (0 ≤ s1 ∧ s1 < 9) <| sd d 1621 s1 s2 fun d31 => lv (w32 (v3 + 1)) fun x32 => some (Sum.inl (d31, x32))
noncomputable def fX11_countPairs_168f (a1 v2 : Int) (s : Dt × Int) : Option ((Dt × Int) ⊕ ((Dt × Int) ⊕ Dt)) := match s with
  | (d, v3) => (if (d 1545 98) ≤ v3 then up (lv (w32 (v2 + 1)) fun x26 => some (Sum.inl (d, x26))) else ck (0 ≤ v3 ∧ v3 < 9) <| (if (d 1617 v3) = 0 then ck (0 ≤ v2 ∧ v2 < 9) <| fX11_countPairs_215 d a1 v2 v3 v2 (d 1621 v2) else ck (0 ≤ v2 ∧ v2 < 9) <| b1 (fX11_margin d v2 v3) fun x34 => fX11_countPairs_215 d a1 v2 v3 v2 (fJ9_min_2 (d 1621 v2) x34)))
noncomputable def fX11_countPairs_168 (d : Dt) (a1 v2 v3 : Int) : Option ((Dt × Int) ⊕ Dt) := loop (fX11_countPairs_168f a1 v2) (d, v3)
noncomputable def fX11_countPairs_151f (a1 : Int) (s : Dt × Int) : Option ((Dt × Int) ⊕ Dt) := match s with
  | (d, v2) => (if (d 1545 98) ≤ v2 then up (bd (fX11_orderByVotes d) fun d19 => bd (fX11_winFirst d19) fun d21 => some d21) else ck (0 ≤ v2 ∧ v2 < 9) <| sd d 1621 v2 0 fun d24 => fX11_countPairs_168 d24 a1 v2 0)
noncomputable def fX11_countPairs_151 (d : Dt) (a1 v2 : Int) : Option Dt := loop (fX11_countPairs_151f a1) (d, v2)
noncomputable def fX11_countPairs_105 (d : Dt) (a1 v2 v3 v4 : Int) : Option ((Dt × Int) ⊕ ((Dt × Int) ⊕ Dt)) :=
  lv (w32 ((w32 (9 * v2)) + v3)) fun x41 => ck (0 ≤ x41 ∧ x41 < 81) <| sd d 1636 x41 v4 fun d43 => ck (0 ≤ v3 ∧ v3 < 9) <| sd d43 1621 v3 v4 fun d45 => lv (w32 (v3 + 1)) fun x46 => some (Sum.inl (d45, x46))
noncomputable def fX11_countPairs_96 (d : Dt) (a1 v2 v3 v5 s0 s1 : Int) : Option ((Int × Int) ⊕ ((Dt × Int) ⊕ ((Dt × Int) ⊕ Dt))) :=
  lv (w32 (s0 + s1)) fun x56 => lv (w32 (v5 + 1)) fun x57 => some (Sum.inl (x56, x57))
noncomputable def fX11_countPairs_26f (d : Dt) (a1 v2 v3 : Int) (s : Int × Int) : Option ((Int × Int) ⊕ ((Dt × Int) ⊕ ((Dt × Int) ⊕ Dt))) := match s with
  | (v4, v5) => (if (d 1545 102) ≤ v5 then up (fX11_countPairs_105 d a1 v2 v3 v4) else ck (0 ≤ v3 ∧ v3 < 9) <| (if (d 1617 v3) = 0 then up (fX11_countPairs_105 d a1 v2 v3 v4) else lv (w32 ((w32 (9 * v5)) + v2)) fun x49 => ck (0 ≤ x49 ∧ x49 < 1800) <| lv (d 1618 x49) fun x51 => lv (w32 ((w32 (9 * v5)) + v3)) fun x52 => ck (0 ≤ x52 ∧ x52 < 1800) <| lv (d 1618 x52) fun x54 => (if x51 ≤ 0 then fX11_countPairs_96 d a1 v2 v3 v5 v4 0 else (if x54 = 0 then fX11_countPairs_96 d a1 v2 v3 v5 v4 1 else (if x54 ≤ x51 then fX11_countPairs_96 d a1 v2 v3 v5 v4 0 else fX11_countPairs_96 d a1 v2 v3 v5 v4 1)))))
noncomputable def fX11_countPairs_26 (d : Dt) (a1 v2 v3 v4 v5 : Int) : Option ((Dt × Int) ⊕ ((Dt × Int) ⊕ Dt)) := loop (fX11_countPairs_26f d a1 v2 v3) (v4, v5)
noncomputable def fX11_countPairs_12f (a1 v2 : Int) (s : Dt × Int) : Option ((Dt × Int) ⊕ ((Dt × Int) ⊕ Dt)) := match s with
  | (d, v3) => (if (d 1545 98) ≤ v3 then up (bd (fX11_tell d) fun d37 => lv (w32 (v2 + 1)) fun x39 => some (Sum.inl (d37, x39))) else fX11_countPairs_26 d a1 v2 v3 0 0)
noncomputable def fX11_countPairs_12 (d : Dt) (a1 v2 v3 : Int) : Option ((Dt × Int) ⊕ Dt) := loop (fX11_countPairs_12f a1 v2) (d, v3)
noncomputable def fX11_countPairs_2f (a1 : Int) (s : Dt × Int) : Option ((Dt × Int) ⊕ Dt) := match s with
  | (d, v2) => (if (d 1545 98) ≤ v2 then up ((if a1 = 7 then fX11_countPairs_151 d a1 0 else (if a1 = 8 then bd (fX11_keepPairs d) fun d16 => fX11_countPairs_247 d16 a1 else fX11_countPairs_247 d a1))) else fX11_countPairs_12 d a1 v2 0)
noncomputable def fX11_countPairs_2 (d : Dt) (a1 v2 : Int) : Option Dt := loop (fX11_countPairs_2f a1) (d, v2)
noncomputable def fX11_countPairs (d : Dt) (a1 : Int) : Option Dt :=
  fX11_countPairs_2 d a1 0
noncomputable def fX11_countBy_89 (d : Dt) (a1 : Int) : Option Dt :=
  bd (fX11_tell d) fun d5 => bd (fX11_orderByVotes d5) fun d7 => bd (fX11_winFirst d7) fun d9 => some d9
noncomputable def fX11_countBy_72 (d : Dt) (a1 : Int) : Option Dt :=
  (if a1 = 5 then bd (fX11_votesByRanks d) fun d11 => fX11_countBy_89 d11 a1 else bd (fX11_votesByMarks d a1) fun d3 => fX11_countBy_89 d3 a1)
noncomputable def fX11_countBy_143 (d : Dt) (a1 : Int) : Option Dt :=
  bd (fX11_countPairs d a1) fun d24 => some d24
noncomputable def fX11_countBy_137 (d : Dt) (a1 s1 : Int) : Option Dt :=
  bd (fX11_countTransfer d s1) fun d34 => some d34
noncomputable def fX11_countBy_125 (d : Dt) (a1 : Int) : Option Dt :=
  (if a1 = 13 then fX11_countBy_137 d a1 1 else fX11_countBy_137 d a1 0)
noncomputable def fX11_countBy (d : Dt) (a1 : Int) : Option Dt :=
  (if a1 = 0 then fX11_countBy_72 d a1 else (if a1 = 1 then fX11_countBy_72 d a1 else (if a1 = 2 then fX11_countBy_72 d a1 else (if a1 = 3 then fX11_countBy_72 d a1 else (if a1 = 4 then bd (fX11_countMedian d) fun d17 => some d17 else (if a1 = 5 then fX11_countBy_72 d a1 else (if a1 = 6 then bd (fX11_countOut d) fun d21 => some d21 else (if a1 = 7 then fX11_countBy_143 d a1 else (if a1 = 8 then fX11_countBy_143 d a1 else (if a1 = 9 then fX11_countBy_143 d a1 else (if a1 = 10 then fX11_countBy_143 d a1 else (if a1 = 11 then bd (fX11_countMeek d) fun d30 => some d30 else (if a1 = 12 then fX11_countBy_125 d a1 else (if a1 = 13 then fX11_countBy_125 d a1 else fX11_countBy_143 d a1))))))))))))))
noncomputable def fX11_count_147 (d : Dt) (a1 a2 : Int) : Option (Dt × Int) :=
  sd d 1545 111 1 fun d17 => sd d17 1545 112 (d17 1545 98) fun d18 => sd d18 1545 113 (d18 1545 102) fun d19 => sd d19 1545 114 (d19 1545 103) fun d20 => sd d20 1545 115 (d20 1545 104) fun d21 => some (d21, (d21 1545 120))
noncomputable def fX11_count_116f (a1 a2 : Int) (s : Dt × Int) : Option ((Dt × Int) ⊕ (Dt × Int)) := match s with
  | (d, v4) => (if (d 1545 98) ≤ v4 then up (fX11_count_147 d a1 a2) else ck (0 ≤ v4 ∧ v4 < 9) <| (if (d 1617 v4) = 0 then lv (w32 (v4 + 1)) fun x24 => some (Sum.inl (d, x24)) else bd (fX11_win d v4) fun d25 => lv (w32 (v4 + 1)) fun x27 => some (Sum.inl (d25, x27))))
noncomputable def fX11_count_116 (d : Dt) (a1 a2 v4 : Int) : Option (Dt × Int) := loop (fX11_count_116f a1 a2) (d, v4)
noncomputable def fX11_count_91 (d : Dt) (a1 a2 v3 s1 s2 : Int) : Option (Dt × Int) :=
  bd (fX11_gather d s1 s2) fun d13 => (if (d13 1545 99) ≤ (d13 1545 100) then fX11_count_116 d13 a1 a2 0 else bd (fX11_countBy d13 v3) fun d28 => fX11_count_147 d28 a1 a2)
noncomputable def fX11_count_73 (d : Dt) (a1 a2 s1 s2 : Int) : Option (Dt × Int) :=
  bd (fX11_countLists d s1 s2) fun d31 => fX11_count_147 d31 a1 a2
noncomputable def fX11_count (d : Dt) (a1 a2 : Int) : Option (Dt × Int) :=
  (if (fX11_isContest d a1) = 0 then some (d, (-1)) else (if (fX11_in a2 0 1) = 0 then some (d, (-2)) else b1 (fX11_areClosed d) fun x3 => (if x3 = 0 then some (d, (-3)) else sd d 1545 120 0 fun d6 => sd d6 1545 116 0 fun d7 => sd d7 1545 122 0 fun d8 => b1 (fX11_contestIs d8 a1 2) fun x9 => (if x9 = 14 then (if a2 = 1 then fX11_count_73 d8 a1 a2 a1 1 else fX11_count_73 d8 a1 a2 a1 0) else (if a2 = 1 then fX11_count_91 d8 a1 a2 x9 a1 1 else fX11_count_91 d8 a1 a2 x9 a1 0)))))
noncomputable def fX0_elected (d : Dt) (a1 : Int) : Option Int :=
  (if (d 1 37) = 0 then some (-1) else (if (fX0_within a1 0 (w32 ((d 79 19) - 1))) = 0 then some (-1) else ck (0 ≤ a1 ∧ a1 < 9) <| some (d 249 a1)))
noncomputable def fX11_elected (d : Dt) (a1 : Int) : Option Int :=
  (if (d 1545 111) = 0 then some (-1) else (if (fX11_in a1 0 (w32 ((d 1545 120) - 1))) = 0 then some (-1) else ck (0 ≤ a1 ∧ a1 < 9) <| some (d 1626 a1)))
def fX0_isRound (d : Dt) (a1 : Int) : Int :=
  (if (d 1 37) = 0 then 0 else (if (fX0_within a1 0 (w32 ((d 79 17) - 1))) = 0 then 0 else 1))
noncomputable def fX0_round_39 (d : Dt) (a1 a2 : Int) : Option Int :=
  some (-1)
noncomputable def fX0_round (d : Dt) (a1 a2 : Int) : Option Int :=
  (if (fX0_isRound d a1) = 0 then fX0_round_39 d a1 a2 else (if (fX0_within a2 0 (w32 ((d 79 3) - 1))) = 0 then fX0_round_39 d a1 a2 else ck (0 ≤ a1 ∧ a1 < 40) <| ck (0 ≤ a2 ∧ a2 < 9) <| some (d (207 + a1) a2)))
noncomputable def fX11_round_53 (d : Dt) (a1 a2 : Int) : Option Int :=
  some (-1)
noncomputable def fX11_round (d : Dt) (a1 a2 : Int) : Option Int :=
  (if (d 1545 111) = 0 then fX11_round_53 d a1 a2 else (if (fX11_in a1 0 (w32 ((d 1545 116) - 1))) = 0 then fX11_round_53 d a1 a2 else (if (fX11_in a2 0 (w32 ((d 1545 112) - 1))) = 0 then fX11_round_53 d a1 a2 else lv (w32 ((w32 (9 * a1)) + a2)) fun x4 => ck (0 ≤ x4 ∧ x4 < 360) <| some (d 1623 x4))))
noncomputable def fX0_act (d : Dt) (a1 a2 : Int) : Option Int :=
  (if (fX0_isRound d a1) = 0 then some (-1) else (if a2 = 0 then ck (0 ≤ a1 ∧ a1 < 40) <| some (d 247 a1) else (if a2 = 1 then ck (0 ≤ a1 ∧ a1 < 40) <| some (d 248 a1) else some (-2))))
noncomputable def fX11_act (d : Dt) (a1 a2 : Int) : Option Int :=
  (if (d 1545 111) = 0 then some (-1) else (if (fX11_in a1 0 (w32 ((d 1545 116) - 1))) = 0 then some (-1) else (if a2 = 0 then ck (0 ≤ a1 ∧ a1 < 40) <| some (d 1624 a1) else (if a2 = 1 then ck (0 ≤ a1 ∧ a1 < 40) <| some (d 1625 a1) else some (-2)))))
noncomputable def fX0_gather_21f (d : Dt) (a1 v3 v4 : Int) (s : Int × Int) : Option ((Int × Int) ⊕ ((Int × Int) ⊕ Int)) := match s with
  | (v2, v5) => (if (d v4 3) ≤ v5 then up (lv (w32 (v3 + 1)) fun x5 => some (Sum.inl (v2, x5))) else (if (d v4 5) = 0 then ck (0 ≤ v5 ∧ v5 < 60) <| lv (w32 (v2 + (bAnd (bShr (d (v4 + 1) v5) a1) 1))) fun x9 => lv (w32 (v5 + 1)) fun x10 => some (Sum.inl (x9, x10)) else up (lv (w32 (v3 + 1)) fun x7 => some (Sum.inl (v2, x7)))))
noncomputable def fX0_gather_21 (d : Dt) (a1 v2 v3 v4 v5 : Int) : Option ((Int × Int) ⊕ Int) := loop (fX0_gather_21f d a1 v3 v4) (v2, v5)
noncomputable def fX0_gather_4f (d : Dt) (a1 : Int) (s : Int × Int) : Option ((Int × Int) ⊕ Int) := match s with
  | (v2, v3) => (if 6 < v3 then up (some v2) else ck (0 ≤ v3 ∧ v3 < 7) <| lv (677 + 124 * v3) fun x3 => fX0_gather_21 d a1 v2 v3 x3 0)
noncomputable def fX0_gather_4 (d : Dt) (a1 v2 v3 : Int) : Option Int := loop (fX0_gather_4f d a1) (v2, v3)
noncomputable def fX0_gather (d : Dt) (a1 : Int) : Option Int :=
  fX0_gather_4 d a1 0 0
noncomputable def fX0_margin_71 (d : Dt) (a1 v4 s0 : Int) : Option ((Int × Int) ⊕ (Dt × Int)) :=
  lv (w32 (v4 + 1)) fun x10 => some (Sum.inl (s0, x10))
noncomputable def fX0_margin_15f (d : Dt) (a1 : Int) (s : Int × Int) : Option ((Int × Int) ⊕ (Dt × Int)) := match s with
  | (v2, v4) => (if (d 321 3) ≤ v4 then up (lv (w32 ((d 321 19) - 1)) fun x4 => ck (0 ≤ x4 ∧ x4 < 9) <| lv (d 491 x4) fun x6 => ck (0 ≤ x6 ∧ x6 < 9) <| some (d, (w32 (w64 ((d 447 x6) - v2))))) else ck (0 ≤ v4 ∧ v4 < 9) <| (if (d 322 v4) = 0 then fX0_margin_71 d a1 v4 v2 else (if (d 492 v4) = 0 then fX0_margin_71 d a1 v4 (fJ9_max_2 v2 (d 447 v4)) else fX0_margin_71 d a1 v4 v2)))
noncomputable def fX0_margin_15 (d : Dt) (a1 v2 v4 : Int) : Option (Dt × Int) := loop (fX0_margin_15f d a1) (v2, v4)
noncomputable def fX0_margin (d : Dt) (a1 : Int) : Option (Dt × Int) :=
  bd (fX0_countOne d 321 a1 0) fun d1 => fX0_margin_15 d1 a1 0 0
noncomputable def fX0_isOther_65 (d : Dt) (a1 a2 a3 v4 v6 s0 s1 : Int) : Option ((Int × Int) ⊕ Int) :=
  lv (bOr s0 s1) fun x9 => lv (w32 (v6 + 1)) fun x10 => some (Sum.inl (x9, x10))
noncomputable def fX0_isOther_20f (d : Dt) (a1 a2 a3 v4 : Int) (s : Int × Int) : Option ((Int × Int) ⊕ Int) := match s with
  | (v5, v6) => ck (0 ≤ a3 ∧ a3 < 6) <| (if (w32 (v4 + (d (629 + 8 * a3) 6))) ≤ v6 then up ((ck (v5 = 0 ∨ v5 = 1) <| some v5)) else ck (0 ≤ a2 ∧ a2 < 60) <| ck (0 ≤ v6 ∧ v6 < 54) <| (if (d ((a1 + 64) + a2) v6) = (d ((a1 + 3) + a2) v6) then fX0_isOther_65 d a1 a2 a3 v4 v6 v5 0 else fX0_isOther_65 d a1 a2 a3 v4 v6 v5 1))
noncomputable def fX0_isOther_20 (d : Dt) (a1 a2 a3 v4 v5 v6 : Int) : Option Int := loop (fX0_isOther_20f d a1 a2 a3 v4) (v5, v6)
noncomputable def fX0_isOther (d : Dt) (a1 a2 a3 : Int) : Option Int :=
  ck (0 ≤ a2 ∧ a2 < 60) <| b1 (fX0_fieldOf d a3 (d (a1 + 1) a2)) fun x2 => fX0_isOther_20 d a1 a2 a3 x2 0 x2
noncomputable def fX0_pick_125 (d : Dt) (a1 a2 v4 v5 v6 s0 s1 : Int) : Option ((Dt × Int × Int) ⊕ ((Dt × Int × Int) ⊕ Dt)) :=
  lv (w32 (s0 - s1)) fun x13 => lv (w32 (v6 + 1)) fun x14 => some (Sum.inl (d, x13, x14))
noncomputable def fX0_pick_114 (d : Dt) (a1 a2 v3 v4 v5 v6 v7 : Int) : Option ((Dt × Int × Int) ⊕ ((Dt × Int × Int) ⊕ Dt)) :=
  (if v7 = 0 then fX0_pick_125 d a1 a2 v4 v5 v6 v3 0 else fX0_pick_125 d a1 a2 v4 v5 v6 v3 1)
noncomputable def fX0_pick_63 (d : Dt) (a1 a2 v3 v4 v5 v6 s0 : Int) : Option ((Dt × Int × Int) ⊕ ((Dt × Int × Int) ⊕ Dt)) :=
  (if s0 = 0 then fX0_pick_114 d a1 a2 v3 v4 v5 v6 s0 else (if v3 = 0 then lv (d 1 42) fun x16 => ck (0 ≤ x16 ∧ x16 < 60) <| sd d 563 x16 v4 fun d18 => lv (d18 1 42) fun x19 => ck (0 ≤ x19 ∧ x19 < 60) <| sd d18 564 x19 v6 fun d21 => b1 (fX0_isOther d21 v5 v6 a1) fun x22 => lv (d21 1 42) fun x24 => ck (0 ≤ x24 ∧ x24 < 60) <| sd d21 565 x24 (x22 % 2) fun d26 => fX0_pick_114 d26 a1 a2 v3 v4 v5 v6 s0 else fX0_pick_114 d a1 a2 v3 v4 v5 v6 s0))
noncomputable def fX0_pick_24f (a1 a2 v4 v5 : Int) (s : Dt × Int × Int) : Option ((Dt × Int × Int) ⊕ ((Dt × Int × Int) ⊕ Dt)) := match s with
  | (d, v3, v6) => (if (d v5 3) ≤ v6 then up (lv (w32 (v4 + 1)) fun x6 => some (Sum.inl (d, v3, x6))) else (if (d v5 5) = 0 then ck (0 ≤ v6 ∧ v6 < 60) <| (if (bAnd (bShr (d (v5 + 1) v6) a1) 1) = 1 then fX0_pick_63 d a1 a2 v3 v4 v5 v6 1 else fX0_pick_63 d a1 a2 v3 v4 v5 v6 0) else up (lv (w32 (v4 + 1)) fun x8 => some (Sum.inl (d, v3, x8)))))
noncomputable def fX0_pick_24 (d : Dt) (a1 a2 v3 v4 v5 v6 : Int) : Option ((Dt × Int × Int) ⊕ Dt) := loop (fX0_pick_24f a1 a2 v4 v5) (d, v3, v6)
noncomputable def fX0_pick_5f (a1 a2 : Int) (s : Dt × Int × Int) : Option ((Dt × Int × Int) ⊕ Dt) := match s with
  | (d, v3, v4) => (if 6 < v4 then up (sd d 1 42 (w32 ((d 1 42) + 1)) fun d2 => some d2) else ck (0 ≤ v4 ∧ v4 < 7) <| lv (677 + 124 * v4) fun x4 => fX0_pick_24 d a1 a2 v3 v4 x4 0)
noncomputable def fX0_pick_5 (d : Dt) (a1 a2 v3 v4 : Int) : Option Dt := loop (fX0_pick_5f a1 a2) (d, v3, v4)
noncomputable def fX0_pick (d : Dt) (a1 a2 : Int) : Option Dt :=
  fX0_pick_5 d a1 a2 a2 0
noncomputable def fX0_drawAll_84 (d : Dt) (a1 a2 a3 v5 v7 v9 s0 s1 : Int) : Option ((Int × Int) ⊕ ((Dt × Int × Int) ⊕ Dt)) :=
  lv (w32 (s0 - s1)) fun x13 => lv (w32 (v9 + 1)) fun x14 => some (Sum.inl (x13, x14))
noncomputable def fX0_drawAll_67 (d : Dt) (a1 a2 a3 v5 v7 v8 v9 : Int) : Option ((Int × Int) ⊕ ((Dt × Int × Int) ⊕ Dt)) :=
  ck (0 ≤ v9 ∧ v9 < 60) <| (if (d 566 v9) = 0 then fX0_drawAll_84 d a1 a2 a3 v5 v7 v9 v8 1 else fX0_drawAll_84 d a1 a2 a3 v5 v7 v9 v8 0)
noncomputable def fX0_drawAll_52f (d : Dt) (a1 a2 a3 v5 v7 : Int) (s : Int × Int) : Option ((Int × Int) ⊕ ((Dt × Int × Int) ⊕ Dt)) := match s with
  | (v8, v9) => ck (0 ≤ v9 ∧ v9 < 60) <| (if (d 566 v9) = 0 then (if v8 ≤ 0 then up (sd d 566 v9 (1 % 2) fun d16 => bd (fX0_pick d16 a1 v9) fun d17 => lv (w32 (v7 + (-1))) fun x19 => some (Sum.inl (d17, v5, x19))) else fX0_drawAll_67 d a1 a2 a3 v5 v7 v8 v9) else fX0_drawAll_67 d a1 a2 a3 v5 v7 v8 v9)
noncomputable def fX0_drawAll_52 (d : Dt) (a1 a2 a3 v5 v7 v8 v9 : Int) : Option ((Dt × Int × Int) ⊕ Dt) := loop (fX0_drawAll_52f d a1 a2 a3 v5 v7) (v8, v9)
noncomputable def fX0_drawAll_22f (a1 a2 a3 : Int) (s : Dt × Int × Int) : Option ((Dt × Int × Int) ⊕ Dt) := match s with
  | (d, v5, v7) => (if v7 ≤ (w32 ((d 1 43) - a2)) then up (some d) else lv (fX0_stepped v5) fun x6 => b1 (fX0_placeOf x6 v7) fun x7 => fX0_drawAll_52 d a1 a2 a3 x6 v7 x7 0)
noncomputable def fX0_drawAll_22 (d : Dt) (a1 a2 a3 v5 v7 : Int) : Option Dt := loop (fX0_drawAll_22f a1 a2 a3) (d, v5, v7)
noncomputable def fX0_drawAll (d : Dt) (a1 a2 a3 : Int) : Option Dt :=
  bd (fJ4_fill d 566 60 0) fun d1 => sd d1 1 42 0 fun d3 => lv (d3 1 43) fun x4 => fX0_drawAll_22 d3 a1 a2 a3 a3 x4
noncomputable def fX0_weigh_117f (d : Dt) (a1 a2 v3 v5 : Int) (s : Int × Int) : Option ((Int × Int) ⊕ Dt) := match s with
  | (v7, v9) => (if (jCmp v9 0) = 0 then up (ck (v7 ≠ 0) <| sd d 1 46 (w64 (Int.tdiv v3 v7)) fun d8 => ck (v7 ≠ 0) <| sd d8 1 47 (w64 (Int.tdiv v5 v7)) fun d10 => some d10) else ck (v9 ≠ 0) <| lv (Int.tmod v7 v9) fun x12 => some (Sum.inl (v9, x12)))
noncomputable def fX0_weigh_117 (d : Dt) (a1 a2 v3 v5 v7 v9 : Int) : Option Dt := loop (fX0_weigh_117f d a1 a2 v3 v5) (v7, v9)
noncomputable def fX0_weigh_89 (d : Dt) (a1 a2 v5 s0 s1 : Int) : Option ((Int × Int) ⊕ Dt) :=
  lv (w64 (s0 + s1)) fun x15 => lv (w32 (v5 + 1)) fun x16 => some (Sum.inl (x15, x16))
noncomputable def fX0_weigh_45 (d : Dt) (a1 a2 v3 v5 s0 : Int) : Option ((Int × Int) ⊕ Dt) :=
  (if s0 = 0 then fX0_weigh_89 d a1 a2 v5 v3 0 else lv (d 1 45) fun x17 => ck (0 ≤ x17 ∧ x17 < 61) <| ck (0 ≤ v5 ∧ v5 < 61) <| lv (w32 ((d 1 43) - (d 1 45))) fun x20 => ck (0 ≤ x20 ∧ x20 < 61) <| lv (w32 (a1 - v5)) fun x22 => ck (0 ≤ x22 ∧ x22 < 61) <| fX0_weigh_89 d a1 a2 v5 v3 (w64 ((d (568 + x17) v5) * (d (568 + x20) x22))))
noncomputable def fX0_weigh_5f (d : Dt) (a1 a2 : Int) (s : Int × Int) : Option ((Int × Int) ⊕ Dt) := match s with
  | (v3, v5) => (if (fJ9_min a2 (d 1 45)) < v5 then up (lv (d 1 43) fun x2 => ck (0 ≤ x2 ∧ x2 < 61) <| ck (0 ≤ a1 ∧ a1 < 61) <| lv (d (568 + x2) a1) fun x5 => fX0_weigh_117 d a1 a2 v3 x5 v3 x5) else (if a1 < v5 then fX0_weigh_45 d a1 a2 v3 v5 0 else (if (w32 ((d 1 43) - (d 1 45))) < (w32 (a1 - v5)) then fX0_weigh_45 d a1 a2 v3 v5 0 else fX0_weigh_45 d a1 a2 v3 v5 1)))
noncomputable def fX0_weigh_5 (d : Dt) (a1 a2 v3 v5 : Int) : Option Dt := loop (fX0_weigh_5f d a1 a2) (v3, v5)
noncomputable def fX0_weigh (d : Dt) (a1 a2 : Int) : Option Dt :=
  fX0_weigh_5 d a1 a2 0 0
noncomputable def fX0_sample_156 (d : Dt) (a1 a2 a3 v8 s0 s1 : Int) : Option ((Int × Int) ⊕ (Dt × Int)) :=
  lv (w32 (s0 + s1)) fun x34 => lv (w32 (v8 + 1)) fun x35 => some (Sum.inl (x34, x35))
noncomputable def fX0_sample_130f (d : Dt) (a1 a2 a3 : Int) (s : Int × Int) : Option ((Int × Int) ⊕ (Dt × Int)) := match s with
  | (v7, v8) => (if (d 1 42) ≤ v8 then up (bd (fX0_weigh d a2 v7) fun d28 => bd (fX0_write d28 28 a1 a2 (w32 (jShr a3 32)) (w32 a3)) fun d30 => some (d30, v7)) else ck (0 ≤ v8 ∧ v8 < 60) <| (if (d 565 v8) = 0 then fX0_sample_156 d a1 a2 a3 v8 v7 0 else fX0_sample_156 d a1 a2 a3 v8 v7 1))
noncomputable def fX0_sample_130 (d : Dt) (a1 a2 a3 v7 v8 : Int) : Option (Dt × Int) := loop (fX0_sample_130f d a1 a2 a3) (v7, v8)
noncomputable def fX0_sample (d : Dt) (a1 a2 a3 : Int) : Option (Dt × Int) :=
  b1 (fX0_isContest d a1) fun x1 => (if x1 = 0 then some (d, (-1)) else b1 (fX0_isReady d) fun x4 => (if x4 = 0 then some (d, (-3)) else lv (d 1 7) fun x7 => ck (x7 ≠ 0) <| ck (0 ≤ a1 ∧ a1 < 6) <| lv ((x7 + 13) + a1) fun x11 => (if 2 < (d x11 2) then some (d, (-4)) else b1 (fX9_struck d (629 + 8 * a1)) fun x13 => (if (d x11 1) < (w32 ((d (629 + 8 * a1) 6) - x13)) then b1 (fX0_gather d a1) fun x16 => (if (fX0_within a2 1 x16) = 0 then some (d, (-2)) else sd d 1 43 x16 fun d19 => b2 (fX0_margin d19 a1) fun d20 x22 => sd d20 1 44 x22 fun d23 => sd d23 1 45 (w32 (Int.tdiv (w32 ((d23 1 44) + 1)) 2)) fun d24 => bd (fX0_drawAll d24 a1 a2 a3) fun d25 => fX0_sample_130 d25 a1 a2 a3 0 0) else some (d, (-4))))))
noncomputable def fX11_draw_248 (d : Dt) (a1 a2 a3 a4 v6 v9 s0 s1 : Int) : Option ((Dt × Int × Int × Int) ⊕ (Dt × Int)) :=
  lv (w32 (s0 + s1)) fun x25 => lv (w32 (v9 + 1)) fun x26 => some (Sum.inl (d, v6, x25, x26))
noncomputable def fX11_draw_218 (d : Dt) (a1 a2 a3 a4 v6 v8 v9 v13 v15 s0 s1 : Int) : Option ((Int × Int) ⊕ ((Dt × Int × Int × Int) ⊕ (Dt × Int))) :=
  lv (bOr s0 s1) fun x32 => lv (w32 (v15 + 1)) fun x33 => some (Sum.inl (x32, x33))
noncomputable def fX11_draw_177f (d : Dt) (a1 a2 a3 a4 v6 v8 v9 v13 : Int) (s : Int × Int) : Option ((Int × Int) ⊕ ((Dt × Int × Int × Int) ⊕ (Dt × Int))) := match s with
  | (v14, v15) => ck (0 ≤ a1 ∧ a1 < 6) <| (if (d 1589 a1) ≤ v15 then up (ck (0 ≤ v9 ∧ v9 < 200) <| sd d 1656 v9 (v14 % 2) fun d23 => (if v14 = 0 then fX11_draw_248 d23 a1 a2 a3 a4 v6 v9 v8 0 else fX11_draw_248 d23 a1 a2 a3 a4 v6 v9 v8 1)) else lv (w32 (v13 + v15)) fun x27 => ck (0 ≤ x27 ∧ x27 < 10800) <| lv (w32 (v13 + v15)) fun x29 => ck (0 ≤ x29 ∧ x29 < 10800) <| (if (d 1610 x27) = (d 1611 x29) then fX11_draw_218 d a1 a2 a3 a4 v6 v8 v9 v13 v15 v14 0 else fX11_draw_218 d a1 a2 a3 a4 v6 v8 v9 v13 v15 v14 1))
noncomputable def fX11_draw_177 (d : Dt) (a1 a2 a3 a4 v6 v8 v9 v13 v14 v15 : Int) : Option ((Dt × Int × Int × Int) ⊕ (Dt × Int)) := loop (fX11_draw_177f d a1 a2 a3 a4 v6 v8 v9 v13) (v14, v15)
noncomputable def fX11_draw_73f (a1 a2 a3 a4 v6 v8 v9 v10 : Int) (s : Dt × Int) : Option ((Dt × Int) ⊕ ((Dt × Int × Int × Int) ⊕ (Dt × Int))) := match s with
  | (d, v12) => (if v10 ≤ (w32 (v12 + 1)) then up (ck (0 ≤ v9 ∧ v9 < 200) <| lv (w32 ((w32 (200 * (d 1654 v9))) + (d 1655 v9))) fun x13 => ck (0 ≤ x13 ∧ x13 < 1400) <| lv (d 1614 x13) fun x15 => ck (0 ≤ x15 ∧ x15 < 200) <| b1 (fX11_marksOf d (bAnd (d 1608 x15) (w32 ((bShl 1 a1) - 1)))) fun x17 => lv (w32 ((w32 (54 * x15)) + x17)) fun x19 => fX11_draw_177 d a1 a2 a3 a4 v6 v8 v9 x19 0 0) else lv (w32 (v12 + 1)) fun x34 => ck (0 ≤ x34 ∧ x34 < 200) <| ck (0 ≤ v12 ∧ v12 < 200) <| sd d 1657 v12 (d 1657 x34) fun d37 => lv (w32 (v12 + 1)) fun x38 => ck (0 ≤ x38 ∧ x38 < 200) <| sd d37 1658 v12 (d37 1658 x38) fun d40 => lv (w32 (v12 + 1)) fun x41 => some (Sum.inl (d40, x41)))
noncomputable def fX11_draw_73 (d : Dt) (a1 a2 a3 a4 v6 v8 v9 v10 v12 : Int) : Option ((Dt × Int × Int × Int) ⊕ (Dt × Int)) := loop (fX11_draw_73f a1 a2 a3 a4 v6 v8 v9 v10) (d, v12)
noncomputable def fX11_draw_10f (a1 a2 a3 a4 : Int) (s : Dt × Int × Int × Int) : Option ((Dt × Int × Int × Int) ⊕ (Dt × Int)) := match s with
  | (d, v6, v8, v9) => (if a2 ≤ v9 then up (sd d 1545 153 a2 fun d2 => some (d2, v8)) else lv (fX11_nextOf v6) fun x3 => lv (w32 (a3 - v9)) fun x4 => ck (x4 ≠ 0) <| lv (w32 (Int.tmod (jUshr x3 33) x4)) fun x6 => ck (0 ≤ x6 ∧ x6 < 200) <| ck (0 ≤ v9 ∧ v9 < 200) <| sd d 1654 v9 (d 1657 x6) fun d9 => sd d9 1655 v9 (d9 1658 x6) fun d10 => fX11_draw_73 d10 a1 a2 a3 a4 x3 v8 v9 x4 x6)
noncomputable def fX11_draw_10 (d : Dt) (a1 a2 a3 a4 v6 v8 v9 : Int) : Option (Dt × Int) := loop (fX11_draw_10f a1 a2 a3 a4) (d, v6, v8, v9)
noncomputable def fX11_draw (d : Dt) (a1 a2 a3 a4 : Int) : Option (Dt × Int) :=
  fX11_draw_10 d a1 a2 a3 a4 a4 0 0
noncomputable def fX11_chosen (d : Dt) (a1 a2 : Int) : Option Int :=
  (if a2 < 0 then some 0 else (if a2 ≤ a1 then lv (w32 ((w32 (61 * a1)) + a2)) fun x3 => ck (0 ≤ x3 ∧ x3 < 3721) <| some (d 1653 x3) else some 0))
noncomputable def fX11_reckon_70f (d : Dt) (a1 a2 v3 v5 : Int) (s : Int × Int) : Option ((Int × Int) ⊕ Dt) := match s with
  | (v7, v9) => (if (jCmp v9 0) = 0 then up (ck (v7 ≠ 0) <| sd d 1545 160 (w64 (Int.tdiv v3 v7)) fun d6 => ck (v7 ≠ 0) <| sd d6 1545 161 (w64 (Int.tdiv v5 v7)) fun d8 => some d8) else ck (v9 ≠ 0) <| lv (Int.tmod v7 v9) fun x10 => some (Sum.inl (v9, x10)))
noncomputable def fX11_reckon_70 (d : Dt) (a1 a2 v3 v5 v7 v9 : Int) : Option Dt := loop (fX11_reckon_70f d a1 a2 v3 v5) (v7, v9)
noncomputable def fX11_reckon_5f (d : Dt) (a1 a2 : Int) (s : Int × Int) : Option ((Int × Int) ⊕ Dt) := match s with
  | (v3, v5) => (if (fJ9_min a1 a2) < v5 then up (b1 (fX11_chosen d (d 1545 157) a1) fun x2 => fX11_reckon_70 d a1 a2 v3 x2 v3 x2) else b1 (fX11_chosen d (d 1545 159) v5) fun x11 => b1 (fX11_chosen d (w32 ((d 1545 157) - (d 1545 159))) (w32 (a1 - v5))) fun x13 => lv (w64 (v3 + (w64 (x11 * x13)))) fun x15 => lv (w32 (v5 + 1)) fun x16 => some (Sum.inl (x15, x16)))
noncomputable def fX11_reckon_5 (d : Dt) (a1 a2 v3 v5 : Int) : Option Dt := loop (fX11_reckon_5f d a1 a2) (v3, v5)
noncomputable def fX11_reckon (d : Dt) (a1 a2 : Int) : Option Dt :=
  fX11_reckon_5 d a1 a2 0 0
noncomputable def fX11_sample_74f (a1 a2 a3 v5 v7 : Int) (s : Dt × Int × Int) : Option ((Dt × Int × Int) ⊕ ((Dt × Int × Int) ⊕ (Dt × Int))) := match s with
  | (d, v6, v8) => ck (0 ≤ v7 ∧ v7 < 7) <| (if (d 1613 v7) ≤ v8 then up (lv (w32 (v7 + 1)) fun x43 => some (Sum.inl (d, v6, x43))) else (if (d 1616 v7) = 0 then lv (w32 ((w32 (200 * v7)) + v8)) fun x46 => ck (0 ≤ x46 ∧ x46 < 1400) <| lv (d 1614 x46) fun x48 => ck (0 ≤ x48 ∧ x48 < 200) <| (if (bAnd (bShr (d 1608 x48) a1) 1) = 0 then lv (w32 (v8 + 1)) fun x56 => some (Sum.inl (d, v6, x56)) else ck (0 ≤ v6 ∧ v6 < 200) <| sd d 1657 v6 v7 fun d52 => sd d52 1658 v6 v8 fun d53 => lv (w32 (v6 + 1)) fun x54 => lv (w32 (v8 + 1)) fun x55 => some (Sum.inl (d53, x54, x55))) else up (lv (w32 (v7 + 1)) fun x45 => some (Sum.inl (d, v6, x45)))))
noncomputable def fX11_sample_74 (d : Dt) (a1 a2 a3 v5 v6 v7 v8 : Int) : Option ((Dt × Int × Int) ⊕ (Dt × Int)) := loop (fX11_sample_74f a1 a2 a3 v5 v7) (d, v6, v8)
noncomputable def fX11_sample_64f (a1 a2 a3 v5 : Int) (s : Dt × Int × Int) : Option ((Dt × Int × Int) ⊕ (Dt × Int)) := match s with
  | (d, v6, v7) => (if 7 ≤ v7 then up ((if (fX11_in a2 1 v6) = 0 then some (d, (-2)) else sd d 1545 152 1 fun d16 => sd d16 1545 157 v6 fun d17 => bd (fX11_gather d17 a1 0) fun d18 => bd (fX11_votesByMarks d18 v5) fun d20 => bd (fX11_orderByVotes d20) fun d22 => lv (w32 ((d22 1545 100) - 1)) fun x24 => ck (0 ≤ x24 ∧ x24 < 9) <| lv (d22 1622 x24) fun x26 => ck (0 ≤ x26 ∧ x26 < 9) <| lv (d22 1545 100) fun x28 => ck (0 ≤ x28 ∧ x28 < 9) <| lv (d22 1622 x28) fun x30 => ck (0 ≤ x30 ∧ x30 < 9) <| sd d22 1545 158 (w32 (w64 ((d22 1621 x26) - (d22 1621 x30)))) fun d32 => sd d32 1545 159 (w32 (Int.tdiv (w32 ((d32 1545 158) + 1)) 2)) fun d33 => b2 (fX11_draw d33 a1 a2 v6 a3) fun d34 x36 => bd (fX11_reckon d34 a2 x36) fun d37 => bd (fX11_write d37 28 a1 a2 (w32 (jShr a3 32)) (w32 a3)) fun d39 => some (d39, x36))) else fX11_sample_74 d a1 a2 a3 v5 v6 v7 0)
noncomputable def fX11_sample_64 (d : Dt) (a1 a2 a3 v5 v6 v7 : Int) : Option (Dt × Int) := loop (fX11_sample_64f a1 a2 a3 v5) (d, v6, v7)
noncomputable def fX11_sample (d : Dt) (a1 a2 a3 : Int) : Option (Dt × Int) :=
  (if (fX11_isContest d a1) = 0 then some (d, (-1)) else b1 (fX11_areClosed d) fun x2 => (if x2 = 0 then some (d, (-3)) else b1 (fX11_contestIs d a1 2) fun x5 => (if 2 < x5 then some (d, (-4)) else ck (0 ≤ a1 ∧ a1 < 6) <| b1 (fX11_struckOf d a1) fun x9 => b1 (fX11_contestIs d a1 1) fun x11 => (if x11 < (w32 ((d 1589 a1) - x9)) then fX11_sample_64 d a1 a2 a3 x5 0 0 else some (d, (-4))))))
noncomputable def fX0_drawn (d : Dt) (a1 a2 : Int) : Option Int :=
  (if (fX0_within a1 0 (w32 ((d 1 42) - 1))) = 0 then some (-1) else (if a2 = 0 then ck (0 ≤ a1 ∧ a1 < 60) <| some (d 563 a1) else (if a2 = 1 then ck (0 ≤ a1 ∧ a1 < 60) <| some (d 564 a1) else (if a2 = 2 then ck (0 ≤ a1 ∧ a1 < 60) <| (if (d 565 a1) = 0 then some 0 else some 1) else some (-2)))))
noncomputable def fX11_drawn (d : Dt) (a1 a2 : Int) : Option Int :=
  (if (fX11_in a1 0 (w32 ((d 1545 153) - 1))) = 0 then some (-1) else (if a2 = 0 then ck (0 ≤ a1 ∧ a1 < 200) <| some (d 1654 a1) else (if a2 = 1 then ck (0 ≤ a1 ∧ a1 < 200) <| some (d 1655 a1) else (if a2 = 2 then ck (0 ≤ a1 ∧ a1 < 200) <| (if (d 1656 a1) = 0 then some 0 else some 1) else some (-2)))))
def fX0_risk (d : Dt) (a1 : Int) : Int :=
  (if (d 1 42) = 0 then (-1) else (if a1 = 0 then (d 1 46) else (if a1 = 1 then (d 1 47) else (-2))))
def fX11_risk (d : Dt) (a1 : Int) : Int :=
  (if (d 1545 152) = 0 then (-1) else (if a1 = 0 then (d 1545 160) else (if a1 = 1 then (d 1545 161) else (-2))))
def fX0_stops (d : Dt) (a1 a2 : Int) : Int :=
  (if (d 1 42) = 0 then (-1) else (if (fX0_within a2 1 50) = 0 then (-2) else (if (fX0_within a1 0 a2) = 0 then (-2) else (if 0 < (jCmp (w64 ((d 1 46) * a2)) (w64 ((d 1 47) * a1))) then 0 else 1))))
def fX11_stops (d : Dt) (a1 a2 : Int) : Int :=
  (if (d 1545 152) = 0 then (-1) else (if (fX11_in a2 1 50) = 0 then (-2) else (if (fX11_in a1 0 a2) = 0 then (-2) else (if 0 < (jCmp (w64 ((d 1545 160) * a2)) (w64 ((d 1545 161) * a1))) then 0 else 1))))
noncomputable def fX7_at (d : Dt) (a1 : Int) : Option Int :=
  lv (w32 (Int.tdiv a1 4)) fun x1 => ck (0 ≤ x1 ∧ x1 < 8) <| some (bAnd (bShr (d 56 x1) (w32 (24 - (w32 (8 * (Int.tmod a1 4)))))) 255)
noncomputable def fX0_head (d : Dt) (a1 : Int) : Option Int :=
  (if (fX0_within a1 0 31) = 0 then some (-1) else b1 (fX7_at d a1) fun x2 => some x2)
noncomputable def fX11_head (d : Dt) (a1 : Int) : Option Int :=
  (if (fX11_in a1 0 31) = 0 then some (-1) else ck (0 ≤ a1 ∧ a1 < 32) <| some (bAnd (d 1659 a1) 255))
def fX0_more_12 (d : Dt) (a1 s0 : Int) : Int :=
  (if a1 = 13 then (if (d 1 37) = 0 then 0 else (d 79 8)) else (if a1 = 14 then (if (d 1 37) = 0 then 0 else (d 79 9)) else (if a1 = 15 then (if (d 1 37) = 0 then 0 else (d 79 10)) else (if a1 = 16 then (if (d 1 37) = 0 then 0 else (d 79 17)) else (if a1 = 17 then (if (d 1 37) = 0 then 0 else (d 79 22)) else (if a1 = 18 then (d 1 42) else (if a1 = 19 then (d 1 12) else (if a1 = 20 then (if s0 = 0 then 0 else (d 1 43)) else (if a1 = 21 then (if s0 = 0 then 0 else (d 1 44)) else (if a1 = 22 then (if s0 = 0 then 0 else (d 1 45)) else (-2)))))))))))
def fX0_more (d : Dt) (a1 : Int) : Int :=
  (if (d 1 42) ≤ 0 then fX0_more_12 d a1 0 else fX0_more_12 d a1 1)
noncomputable def fX0_told (d : Dt) (a1 : Int) : Option Int :=
  (if a1 = 0 then some (d 1 2) else (if a1 = 1 then some (d 3 1) else (if a1 = 2 then some (d 3 6) else (if a1 = 3 then some (d 1 5) else (if a1 = 4 then (if (d 1 9) = 0 then some 0 else lv (d 1 7) fun x7 => ck (x7 ≠ 0) <| some (d x7 14)) else (if a1 = 5 then some (d 1 15) else (if a1 = 6 then some (d 1 21) else (if a1 = 7 then b1 (fX0_onRoll d) fun x13 => some x13 else (if a1 = 8 then some (d 1 26) else (if a1 = 9 then some (d 1 30) else (if a1 = 10 then some (d 1 32) else (if a1 = 11 then some (d 1 1) else (if a1 = 12 then (if (d 1 17) = 0 then some 0 else some 1) else some (fX0_more d a1))))))))))))))
noncomputable def fX11_told (d : Dt) (a1 : Int) : Option Int :=
  (if a1 = 0 then some (d 1545 2) else (if a1 = 1 then some (d 1545 3) else (if a1 = 2 then some (d 1545 5) else (if a1 = 3 then some (d 1545 10) else (if a1 = 4 then some (d 1545 47) else (if a1 = 5 then some (d 1545 56) else (if a1 = 6 then some (d 1545 71) else (if a1 = 7 then b1 (fX11_rowsOn d) fun x9 => some x9 else (if a1 = 8 then some (d 1545 75) else (if a1 = 9 then some (d 1545 79) else (if a1 = 10 then some (d 1545 82) else (if a1 = 11 then some (d 1545 1) else (if a1 = 12 then (if (d 1545 64) = 0 then some 0 else some 1) else (if a1 = 13 then (if (d 1545 111) = 0 then some 0 else some (d 1545 113)) else (if a1 = 14 then (if (d 1545 111) = 0 then some 0 else some (d 1545 114)) else (if a1 = 15 then (if (d 1545 111) = 0 then some 0 else some (d 1545 115)) else (if a1 = 16 then (if (d 1545 111) = 0 then some 0 else some (d 1545 116)) else (if a1 = 17 then (if (d 1545 111) = 0 then some 0 else some (d 1545 122)) else (if a1 = 18 then some (d 1545 153) else (if a1 = 19 then some (d 1545 165) else (if a1 = 20 then (if (d 1545 152) = 0 then some 0 else some (d 1545 157)) else (if a1 = 21 then (if (d 1545 152) = 0 then some 0 else some (d 1545 158)) else (if a1 = 22 then (if (d 1545 152) = 0 then some 0 else some (d 1545 159)) else some (-2))))))))))))))))))))))))
noncomputable def fX0_init_369f (v1 : Int) (s : Dt × Int) : Option ((Dt × Int) ⊕ ((Dt × Int) ⊕ Dt)) := match s with
  | (d, v2) => (if v1 < v2 then up (lv (w32 (v1 + 1)) fun x5 => some (Sum.inl (d, x5))) else ck (0 ≤ v1 ∧ v1 < 61) <| lv (w32 (v1 - 1)) fun x7 => ck (0 ≤ x7 ∧ x7 < 61) <| lv (w32 (v2 - 1)) fun x9 => ck (0 ≤ x9 ∧ x9 < 61) <| lv (w32 (v1 - 1)) fun x11 => ck (0 ≤ x11 ∧ x11 < 61) <| ck (0 ≤ v2 ∧ v2 < 61) <| sd d (568 + v1) v2 (w64 ((d (568 + x7) x9) + (d (568 + x11) v2))) fun d14 => lv (w32 (v2 + 1)) fun x15 => some (Sum.inl (d14, x15)))
noncomputable def fX0_init_369 (d : Dt) (v1 v2 : Int) : Option ((Dt × Int) ⊕ Dt) := loop (fX0_init_369f v1) (d, v2)
noncomputable def fX0_init_352f (s : Dt × Int) : Option ((Dt × Int) ⊕ Dt) := match s with
  | (d, v1) => (if 60 < v1 then up (some d) else ck (0 ≤ v1 ∧ v1 < 61) <| sd d (568 + v1) 0 1 fun d3 => fX0_init_369 d3 v1 1)
noncomputable def fX0_init_352 (d : Dt) (v1 : Int) : Option Dt := loop (fX0_init_352f) (d, v1)
noncomputable def fX11_init_1568 (d : Dt) (v1 v2 s1 s2 s3 : Int) : Option ((Dt × Int) ⊕ ((Dt × Int) ⊕ Dt)) :=
  ck (0 ≤ s1 ∧ s1 < 3721) <| sd d 1653 s1 (w64 (s2 + s3)) fun d11 => lv (w32 (v2 + 1)) fun x12 => some (Sum.inl (d11, x12))
noncomputable def fX11_init_1516f (v1 : Int) (s : Dt × Int) : Option ((Dt × Int) ⊕ ((Dt × Int) ⊕ Dt)) := match s with
  | (d, v2) => (if v1 < v2 then up (lv (w32 (v1 + 1)) fun x6 => some (Sum.inl (d, x6))) else lv (w32 ((w32 ((w32 (61 * (w32 (v1 - 1)))) + v2)) - 1)) fun x7 => ck (0 ≤ x7 ∧ x7 < 3721) <| (if v1 ≤ v2 then fX11_init_1568 d v1 v2 (w32 ((w32 (61 * v1)) + v2)) (d 1653 x7) 0 else lv (w32 ((w32 (61 * (w32 (v1 - 1)))) + v2)) fun x13 => ck (0 ≤ x13 ∧ x13 < 3721) <| fX11_init_1568 d v1 v2 (w32 ((w32 (61 * v1)) + v2)) (d 1653 x7) (d 1653 x13)))
noncomputable def fX11_init_1516 (d : Dt) (v1 v2 : Int) : Option ((Dt × Int) ⊕ Dt) := loop (fX11_init_1516f v1) (d, v2)
noncomputable def fX11_init_1498f (s : Dt × Int) : Option ((Dt × Int) ⊕ Dt) := match s with
  | (d, v1) => (if 61 ≤ v1 then up (some d) else lv (w32 (61 * v1)) fun x2 => ck (0 ≤ x2 ∧ x2 < 3721) <| sd d 1653 x2 1 fun d4 => fX11_init_1516 d4 v1 1)
noncomputable def fX11_init_1498 (d : Dt) (v1 : Int) : Option Dt := loop (fX11_init_1498f) (d, v1)
