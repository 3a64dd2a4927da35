/-! LEVEL 3: the cells by modules -/
set_option maxRecDepth 100000
def slX (y : Int) : Int := if y = 1 then 0 else if y = 12 then 1 else if y = 2 then 2 else if y = 5 then 4 else if y = 7 ∨ y = 8 ∨ y = 9 then 5 else if y = 10 then 14 else if y = 15 ∨ y = 17 then 6 else if y = 21 ∨ y = 26 then 7 else if y = 30 ∨ y = 32 then 8 else if y = 37 then 10 else if 42 ≤ y ∧ y ≤ 47 then 11 else 16
def slM (y : Int) : Int := if y = 1 then 0 else if y = 165 then 1 else if y = 2 then 2 else if y = 3 ∨ y = 5 then 3 else if y = 10 then 4 else if 28 ≤ y ∧ y ≤ 35 then 15 else if y = 45 ∨ y = 46 ∨ y = 47 then 5 else if y = 48 then 14 else if y = 49 ∨ y = 50 ∨ y = 55 then 15 else if y = 56 ∨ y = 64 then 6 else if y = 71 ∨ y = 75 then 7 else if y = 79 ∨ y = 82 then 8 else if 97 ≤ y ∧ y ≤ 150 then 10 else if 152 ≤ y ∧ y ≤ 161 then 11 else 16
def rowm (x : Int) : Int := if x ≤ 2 then 0 else if x ≤ 8 then 3 else if x = 9 then 4 else if x ≤ 13 then 15 else if x = 14 then 16 else if x = 27 ∨ x = 46 then 15 else if x ≤ 52 then 5 else if x ≤ 56 then 1 else if x = 57 then 16 else if x ≤ 59 then 6 else if x ≤ 66 then 7 else if x ≤ 76 then 8 else if x = 77 then 15 else if x = 78 then 9 else if x ≤ 562 then 10 else if x ≤ 566 then 11 else if x ≤ 628 then 16 else if x ≤ 676 then 6 else if x ≤ 1544 then 9 else if x = 1546 then 0 else if x ≤ 1551 then 3 else if x ≤ 1564 then 4 else if x ≤ 1568 then 15 else if x ≤ 1577 then 5 else if x ≤ 1581 then 15 else if x ≤ 1594 then 6 else if x ≤ 1600 then 7 else if x ≤ 1611 then 8 else if x = 1612 then 15 else if x ≤ 1616 then 9 else if x ≤ 1652 then 10 else if x = 1653 then 16 else if x ≤ 1658 then 11 else if x ≤ 1663 then 1 else 16
def dym (t : Int) : Int := if t = 13 ∨ t = 101 then 4 else if t = 14 then 6 else if t = 15 ∨ t = 102 then 8 else 99
/-- which module a cell belongs to: 0 tape, 1 book, 2 day, 3 land, 4 persons, 5 law, 6 nominations and candidates, 7 roll, 8 issues, 9 boxes, 10 count, 11 sample, 14 the failed place, 15 scratch, 16 constants, 99 free -/
def mo (m : Dt) (x y : Int) : Int := if x = 1 then slX y else if x = 1545 then slM y else if x < 1666 then rowm x else dym (m x 3)
/-- d' is d but for some modules -/
def Sm (m : Dt) (T : List Int) (d d' : Dt) : Prop := ∀ x y, mo m x y ∉ T → d' x y = d x y
theorem Sm.refl {m d : Dt} {T : List Int} : Sm m T d d := fun _ _ _ => rfl
theorem Sm.trans {m d d1 d2 : Dt} {T1 T2 T : List Int} (h1 : Sm m T1 d d1) (h2 : Sm m T2 d1 d2) (s1 : ∀ x, x ∈ T1 → x ∈ T := by decide) (s2 : ∀ x, x ∈ T2 → x ∈ T := by decide) : Sm m T d d2 := fun x y h => (h2 x y (fun q => h (s2 _ q))).trans (h1 x y (fun q => h (s1 _ q)))
/-- a cell of another module; t: its module -/
theorem Sm.at {m d d' : Dt} {T : List Int} (hs : Sm m T d d') (t x y : Int) (h : mo m x y = t := by rfl) (ht : t ∉ T := by decide) : d' x y = d x y := hs x y (by rw [h]; exact ht)
theorem Sm.sto {m d : Dt} {a k v : Int} (t : Int) (h : mo m a k = t := by rfl) : Sm m [t] d (st d a k v) := fun x y hx => by
  unfold st
  rw [if_neg]
  rintro ⟨rfl, rfl⟩
  exact hx (by rw [h]; exact List.mem_singleton.mpr rfl)
theorem Sm.up {m d d' : Dt} {T T' : List Int} (h : Sm m T d d') (s : ∀ x, x ∈ T → x ∈ T' := by decide) : Sm m T' d d' := fun x y hx => h x y (fun q => hx (s _ q))
/-! 1: the book -/
def BX (h : Int → Int) (c : Int) (d : Dt) : Prop := (∀ k, 0 ≤ k → k < 8 → d 56 k = h k ∧ in32 (h k)) ∧ d 1 12 = c
def BM (h : Int → Int) (c : Int) (d : Dt) : Prop := Top h d ∧ d 1545 165 = c
def R1 (d : Dt) : Prop := ∃ h c, BX h c d ∧ BM h c d
theorem mo_1 {m : Dt} {x y : Int} (h : x = 54 ∨ x = 55 ∨ x = 56 ∨ (x = 1 ∧ y = 12) ∨ (1659 ≤ x ∧ x ≤ 1663) ∨ (x = 1545 ∧ y = 165)) : mo m x y = 1 := by
  rcases h with rfl | rfl | rfl | ⟨rfl, rfl⟩ | h | ⟨rfl, rfl⟩
  · rfl
  · rfl
  · rfl
  · rfl
  · have : x = 1659 ∨ x = 1660 ∨ x = 1661 ∨ x = 1662 ∨ x = 1663 := by omega
    rcases this with rfl | rfl | rfl | rfl | rfl <;> rfl
  · rfl
theorem shW_cg {w w' : Int → Int} (h : ∀ y, 0 ≤ y → w' y = w y) : ∀ n : Nat, ∀ y, 0 ≤ y → shW w' n y = shW w n y := by
  intro n
  induction n with
  | zero => exact h
  | succ n ih =>
    intro y h0
    simp only [shW]
    by_cases q : y = 16 + (n : Int)
    · rw [if_pos q, if_pos q]
      unfold shN
      rw [ih _ (by omega), ih _ (by omega), ih _ (by omega), ih _ (by omega)]
    · rw [if_neg q, if_neg q]; exact ih y h0
theorem shV_cg {w w' : Int → Int} (h : ∀ y, 0 ≤ y → w' y = w y) : ∀ n : Nat, shV w' n = shV w n := by
  intro n
  induction n with
  | zero => rfl
  | succ n ih =>
    funext y
    simp only [shV]
    rw [ih, shO_cg (v := shV w n) (fun _ _ _ => rfl) (h n (by omega))]
theorem shH_cg {h h' : Int → Int} {a b c e f : Int} (hh : ∀ k, 0 ≤ k → k < 8 → h' k = h k) {k : Int} : shH h' a b c e f k = shH h a b c e f k := by
  unfold shH
  rw [shV_cg (w := shW (w0r h a b c e f) 48) (w' := shW (w0r h' a b c e f) 48) (shW_cg (fun y h0 => ?_) 48)]
  unfold w0r
  by_cases q : y < 8
  · rw [if_pos q, if_pos q]; exact hh y h0 q
  · rw [if_neg q, if_neg q]
theorem writeX {m d : Dt} {h : Int → Int} {n a b c e f : Int} (hb : BX h n d) : wp (fX0_write d a b c e f) (fun d' => Sm m [1] d d' ∧ BX (shH h a b c e f) (w32 (n + 1)) d' ∧ ∀ h n, BM h n d → BM h n d') := by
  refine (write_X d a b c e f).mono fun d' hd => ⟨fun x y hx => ?_, ⟨fun k h0 h1 => ⟨?_, shH_in⟩, by rw [hd.2.2, hb.2]⟩, fun h n hm => ⟨fun k j h0 h1 h2 h3 => ?_, ?_⟩⟩
  · have hx : mo m x y ≠ 1 := fun q => hx (by rw [q]; exact List.mem_singleton.mpr rfl)
    exact hd.1 x y (fun q => hx (mo_1 (Or.inl q))) (fun q => hx (mo_1 (Or.inr (Or.inl q)))) (fun q => hx (mo_1 (Or.inr (Or.inr (Or.inl q))))) (fun q => hx (mo_1 (Or.inr (Or.inr (Or.inr (Or.inl q))))))
  · rw [hd.2.1 k h0 h1]
    exact shH_cg fun k a b => (hb.1 k a b).1
  · rw [hd.1 _ _ (by decide) (by decide) (by decide) (by omega)]
    exact hm.1 k j h0 h1 h2 h3
  · rw [hd.1 _ _ (by decide) (by decide) (by decide) (by omega)]
    exact hm.2
theorem writeM {m d : Dt} {h h' : Int → Int} {n n' a b c e f : Int} (hK : Kon d) (hb : BM h n d) (hx : ∀ k, 0 ≤ k → k < 8 → in32 (h k)) (ha : in32 a) (hb2 : in32 b) (hc : in32 c) (he : in32 e) (hf : in32 f) : wp (fX11_write d a b c e f) (fun d' => Sm m [1] d d' ∧ BM (shH h a b c e f) (w32 (n + 1)) d' ∧ ∀ h n, BX h n d → BX h n d') := by
  refine (write_M hK hb.1 hx ha hb2 hc he hf).mono fun d' hd => ⟨fun x y hx => ?_, ⟨hd.2.1, by rw [hd.2.2, hb.2]⟩, fun h n hm => ⟨fun k h0 h1 => ?_, ?_⟩⟩
  · have hx : mo m x y ≠ 1 := fun q => hx (by rw [q]; exact List.mem_singleton.mpr rfl)
    exact hd.1 x y (fun q => hx (mo_1 (by omega))) (fun q => hx (mo_1 (by omega)))
  · rw [hd.1 _ _ (by omega) (by omega)]
    exact hm.1 k h0 h1
  · rw [hd.1 _ _ (by omega) (by omega)]
    exact hm.2
/-! 0: the tape -/
def R0 (d : Dt) : Prop := d 1 1 = d 1545 1 ∧ (0 ≤ d 1 1 ∧ d 1 1 ≤ 4000) ∧ ∀ k, 0 ≤ k → k < 4000 → d 2 k = d 1546 k ∧ -128 ≤ d 2 k ∧ d 2 k ≤ 127
/-! 2: the day -/
def R2 (d : Dt) : Prop := d 1 2 = d 1545 2 ∧ 0 ≤ d 1 2 ∧ d 1 2 ≤ 36524
/-! 3: the land -/
def R3 (d : Dt) : Prop := d 3 1 = d 1545 3 ∧ (0 ≤ d 3 1 ∧ d 3 1 ≤ 24) ∧ (∀ k, 0 ≤ k → k < d 3 1 → d 4 k = d 1547 k ∧ 0 ≤ d 4 k ∧ d 4 k ≤ 2) ∧ d 3 6 = d 1545 5 ∧ (0 ≤ d 3 6 ∧ d 3 6 ≤ 60) ∧
  ∀ k, 0 ≤ k → k < d 3 6 → d 5 k = d 1548 k ∧ (0 ≤ d 5 k ∧ d 5 k < d 3 1) ∧ d 6 k = d 1549 k ∧ d 7 k = d 1550 k ∧ d 8 k = d 1551 k
theorem R0.cg {m d d' : Dt} {T : List Int} (h : R0 d) (hs : Sm m T d d') (hT : 0 ∉ T := by decide) : R0 d' := by
  have e1 : d' 1 1 = d 1 1 := hs 1 1 hT
  have e2 : d' 1545 1 = d 1545 1 := hs 1545 1 hT
  have e3 : ∀ k, d' 2 k = d 2 k := fun k => hs 2 k hT
  have e4 : ∀ k, d' 1546 k = d 1546 k := fun k => hs 1546 k hT
  unfold R0 at h ⊢
  simp only [e1, e2, e3, e4]
  exact h
theorem R2.cg {m d d' : Dt} {T : List Int} (h : R2 d) (hs : Sm m T d d') (hT : 2 ∉ T := by decide) : R2 d' := by
  have e1 : d' 1 2 = d 1 2 := hs 1 2 hT
  have e2 : d' 1545 2 = d 1545 2 := hs 1545 2 hT
  unfold R2 at h ⊢
  rw [e1, e2]
  exact h
theorem R3.cg {m d d' : Dt} {T : List Int} (h : R3 d) (hs : Sm m T d d') (hT : 3 ∉ T := by decide) : R3 d' := by
  have r : ∀ x, (x = 3 ∨ x = 4 ∨ x = 5 ∨ x = 6 ∨ x = 7 ∨ x = 8 ∨ x = 1547 ∨ x = 1548 ∨ x = 1549 ∨ x = 1550 ∨ x = 1551) → ∀ k, d' x k = d x k := fun x hx k => hs x k (by rcases hx with rfl | rfl | rfl | rfl | rfl | rfl | rfl | rfl | rfl | rfl | rfl <;> exact hT)
  have e1 : d' 1545 3 = d 1545 3 := hs 1545 3 hT
  have e2 : d' 1545 5 = d 1545 5 := hs 1545 5 hT
  unfold R3 at h ⊢
  simp only [e1, e2, r 3 (by decide), r 4 (by decide), r 5 (by decide), r 6 (by decide), r 7 (by decide), r 8 (by decide), r 1547 (by decide), r 1548 (by decide), r 1549 (by decide), r 1550 (by decide), r 1551 (by decide)]
  exact h
theorem R1.cg {m d d' : Dt} {T : List Int} (h : R1 d) (hs : Sm m T d d') (hT : 1 ∉ T := by decide) : R1 d' := by
  obtain ⟨f, c, ⟨b1, b2⟩, b3, b4⟩ := h
  have e1 : d' 1 12 = d 1 12 := hs 1 12 hT
  have e2 : d' 1545 165 = d 1545 165 := hs 1545 165 hT
  have e3 : ∀ k, d' 56 k = d 56 k := fun k => hs 56 k hT
  have e4 : ∀ k, d' 1659 k = d 1659 k := fun k => hs 1659 k hT
  refine ⟨f, c, ⟨fun k h0 h1 => by rw [e3]; exact b1 k h0 h1, by rw [e1]; exact b2⟩, fun k j h0 h1 h2 h3 => by rw [e4]; exact b3 k j h0 h1 h2 h3, by rw [e2]; exact b4⟩
theorem BM.cg {m d d' : Dt} {T : List Int} {f : Int → Int} {c : Int} (h : BM f c d) (hs : Sm m T d d') (hT : 1 ∉ T := by decide) : BM f c d' := by
  have e2 : d' 1545 165 = d 1545 165 := hs 1545 165 hT
  have e4 : ∀ k, d' 1659 k = d 1659 k := fun k => hs 1659 k hT
  exact ⟨fun k j h0 h1 h2 h3 => by rw [e4]; exact h.1 k j h0 h1 h2 h3, by rw [e2]; exact h.2⟩
theorem BX.cg {m d d' : Dt} {T : List Int} {f : Int → Int} {c : Int} (h : BX f c d) (hs : Sm m T d d') (hT : 1 ∉ T := by decide) : BX f c d' := by
  have e1 : d' 1 12 = d 1 12 := hs 1 12 hT
  have e3 : ∀ k, d' 56 k = d 56 k := fun k => hs 56 k hT
  exact ⟨fun k h0 h1 => by rw [e3]; exact h.1 k h0 h1, by rw [e1]; exact h.2⟩
theorem Kon.cg {m d d' : Dt} {T : List Int} (h : Kon d) (hs : Sm m T d d') (hT : 16 ∉ T := by decide) : Kon d' := by
  have e3 : ∀ k, d' 1664 k = d 1664 k := fun k => hs 1664 k hT
  have e4 : ∀ k, d' 1665 k = d 1665 k := fun k => hs 1665 k hT
  exact ⟨fun k h0 h1 => by rw [e3]; exact h.1 k h0 h1, fun k h0 h1 => by rw [e4]; exact h.2 k h0 h1⟩
