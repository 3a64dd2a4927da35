/-! LEVEL 3: a state that is tracked but for the book; persons -/
set_option maxRecDepth 100000
/-- d is E but for the book; the books of both sides -/
def Tk (m E d : Dt) (hx : Int → Int) (cx : Int) (hm : Int → Int) (cm : Int) : Prop := Sm m [1] E d ∧ BX hx cx d ∧ BM hm cm d ∧ Kon d
theorem Tk.s {m E d : Dt} {hx hm : Int → Int} {cx cm : Int} (h : Tk m E d hx cx hm cm) : Sm m [1] E d := h.1
theorem Tk.x {m E d : Dt} {hx hm : Int → Int} {cx cm : Int} (h : Tk m E d hx cx hm cm) : BX hx cx d := h.2.1
theorem Tk.r {m E d : Dt} {hx hm : Int → Int} {cx cm : Int} (h : Tk m E d hx cx hm cm) : BM hm cm d := h.2.2.1
theorem Tk.k {m E d : Dt} {hx hm : Int → Int} {cx cm : Int} (h : Tk m E d hx cx hm cm) : Kon d := h.2.2.2
theorem Tk.ini {m d : Dt} {h : Int → Int} {c : Int} (bx : BX h c d) (bm : BM h c d) (hK : Kon d) : Tk m d d h c h c := ⟨Sm.refl, bx, bm, hK⟩
theorem Tk.at {m E d : Dt} {hx hm : Int → Int} {cx cm : Int} (h : Tk m E d hx cx hm cm) (t x y : Int) (e : mo m x y = t := by rfl) (ht : t ∉ [(1 : Int)] := by decide) : d x y = E x y := h.s.at t x y e ht
theorem Tk.sto {m E d : Dt} {hx hm : Int → Int} {cx cm a k v : Int} (h : Tk m E d hx cx hm cm) (t : Int) (e : mo m a k = t := by rfl) (h1 : 1 ∉ [t] := by decide) (h2 : 16 ∉ [t] := by decide) : Tk m (st E a k v) (st d a k v) hx cx hm cm :=
  have s2 : Sm m [t] d (st d a k v) := Sm.sto t e
  ⟨h.s.stc, h.x.cg s2 h1, h.r.cg s2 h1, h.k.cg s2 h2⟩
theorem Tk.wX {m E d : Dt} {hx hm : Int → Int} {cx cm a b c e f : Int} (h : Tk m E d hx cx hm cm) : wp (fX0_write d a b c e f) (fun d' => Tk m E d' (shH hx a b c e f) (w32 (cx + 1)) hm cm) :=
  (writeX (m := m) h.x).mono fun _ q => ⟨h.s.trans q.1, q.2.1, q.2.2 _ _ h.r, h.k.cg q.1⟩
theorem Tk.wM {m E d : Dt} {hx hm : Int → Int} {cx cm a b c e f : Int} (h : Tk m E d hx cx hm cm) (hh : ∀ k, 0 ≤ k → k < 8 → in32 (hm k)) (ha : in32 a) (hb : in32 b) (hc : in32 c) (he : in32 e) (hf : in32 f) : wp (fX11_write d a b c e f) (fun d' => Tk m E d' hx cx (shH hm a b c e f) (w32 (cm + 1))) :=
  (writeM (m := m) (h' := hm) (n' := cm) h.k h.r hh ha hb hc he hf).mono fun _ q => ⟨h.s.trans q.1, q.2.2 _ _ h.x, q.2.1, h.k.cg q.1⟩
theorem Tk.r1 {m E d : Dt} {h : Int → Int} {c : Int} (q : Tk m E d h c h c) : R1 d := ⟨h, c, q.x, q.r⟩
/-! addresses by days -/
def Ad (D T : Int → Int) (n t v : Int) : Prop := (v = -1 ∧ ∀ k, 0 ≤ k → k < n → t < D k) ∨ ∃ k, (0 ≤ k ∧ k < n ∧ D k ≤ t ∧ T k = v) ∧ ∀ j, 0 ≤ j → j < n → D j ≤ t → D j < D k ∨ (D j = D k ∧ j ≤ k)
theorem Ad.uni {D T : Int → Int} {n t v v' : Int} (h : Ad D T n t v) (h' : Ad D T n t v') : v = v' := by
  rcases h with ⟨e, h⟩ | ⟨k, ⟨k0, k1, k2, k3⟩, h⟩
  · rcases h' with ⟨e', _⟩ | ⟨k', ⟨p0, p1, p2, p3⟩, h'⟩
    · omega
    · have := h k' p0 p1; omega
  · rcases h' with ⟨e', h'⟩ | ⟨k', ⟨p0, p1, p2, p3⟩, h'⟩
    · have := h' k k0 k1; omega
    · have a := h k' p0 p1 p2
      have b := h' k k0 k1 k2
      have : k = k' := by omega
      subst this
      omega
/-- a row is put in at a place -/
def Ins (D T D1 T1 : Int → Int) (n i a b : Int) : Prop := (0 ≤ i ∧ i ≤ n) ∧ (∀ k, 0 ≤ k → k < i → D1 k = D k ∧ T1 k = T k) ∧ (D1 i = a ∧ T1 i = b) ∧ (∀ k, i < k → k ≤ n → D1 k = D (k - 1) ∧ T1 k = T (k - 1)) ∧ ∀ k, i ≤ k → k < n → a < D k
theorem Ins.ad {D T D1 T1 : Int → Int} {n i a b t v : Int} (h : Ins D T D1 T1 n i a b) : Ad D1 T1 (n + 1) t v ↔ ((a ≤ t ∧ ∀ k, 0 ≤ k → k < n → D k ≤ t → D k ≤ a) ∧ v = b) ∨ (¬ (a ≤ t ∧ ∀ k, 0 ≤ k → k < n → D k ≤ t → D k ≤ a) ∧ Ad D T n t v) := by
  obtain ⟨hi, h1, ⟨h2, h3⟩, h4, h5⟩ := h
  constructor
  · rintro (⟨e, h⟩ | ⟨k, ⟨k0, k1, k2, k3⟩, h⟩)
    · have a1 := h i (by omega) (by omega)
      refine Or.inr ⟨fun q => by omega, Or.inl ⟨e, fun k k0 k1 => ?_⟩⟩
      by_cases q : k < i
      · have := h k k0 (by omega); rw [(h1 k k0 q).1] at this; exact this
      · have := h (k + 1) (by omega) (by omega)
        have e2 := (h4 (k + 1) (by omega) (by omega)).1
        rw [show k + 1 - 1 = k by omega] at e2
        omega
    · rcases Int.lt_trichotomy k i with q | q | q
      · have e1 := h1 k k0 q
        refine Or.inr ⟨fun w => ?_, Or.inr ⟨k, ⟨k0, by omega, by omega, by omega⟩, fun j j0 j1 j2 => ?_⟩⟩
        · have := h i (by omega) (by omega) (by omega)
          have := w.2 k k0 (by omega) (by omega)
          omega
        · by_cases r : j < i
          · have e2 := h1 j j0 r
            have := h j j0 (by omega) (by omega)
            omega
          · have e2 := (h4 (j + 1) (by omega) (by omega)).1
            rw [show j + 1 - 1 = j by omega] at e2
            have := h (j + 1) (by omega) (by omega) (by omega)
            omega
      · subst q
        refine Or.inl ⟨⟨by omega, fun j j0 j1 j2 => ?_⟩, by omega⟩
        by_cases r : j < k
        · have e2 := h1 j j0 r
          have := h j j0 (by omega) (by omega)
          omega
        · have e2 := (h4 (j + 1) (by omega) (by omega)).1
          rw [show j + 1 - 1 = j by omega] at e2
          have := h (j + 1) (by omega) (by omega) (by omega)
          omega
      · have e1 := h4 k q (by omega)
        refine Or.inr ⟨fun w => ?_, Or.inr ⟨k - 1, ⟨by omega, by omega, by omega, by omega⟩, fun j j0 j1 j2 => ?_⟩⟩
        · have := w.2 (k - 1) (by omega) (by omega) (by omega)
          have := h5 (k - 1) (by omega) (by omega)
          omega
        · by_cases r : j < i
          · have e2 := h1 j j0 r
            have := h j j0 (by omega) (by omega)
            omega
          · have e2 := (h4 (j + 1) (by omega) (by omega)).1
            rw [show j + 1 - 1 = j by omega] at e2
            have := h (j + 1) (by omega) (by omega) (by omega)
            omega
  · rintro (⟨⟨w1, w2⟩, e⟩ | ⟨w, ⟨e, h⟩ | ⟨k, ⟨k0, k1, k2, k3⟩, h⟩⟩)
    · refine Or.inr ⟨i, ⟨by omega, by omega, by omega, by omega⟩, fun j j0 j1 j2 => ?_⟩
      rcases Int.lt_trichotomy j i with q | q | q
      · have e1 := h1 j j0 q
        have := w2 j j0 (by omega) (by omega)
        omega
      · subst q; omega
      · have e1 := h4 j q (by omega)
        have := w2 (j - 1) (by omega) (by omega) (by omega)
        have := h5 (j - 1) (by omega) (by omega)
        omega
    · have a1 : t < a := by
        rcases Int.lt_or_le t a with q | q
        · exact q
        · exact absurd ⟨q, fun k k0 k1 k2 => by have := h k k0 k1; omega⟩ w
      refine Or.inl ⟨e, fun k k0 k1 => ?_⟩
      rcases Int.lt_trichotomy k i with q | q | q
      · rw [(h1 k k0 q).1]; exact h k k0 (by omega)
      · subst q; omega
      · rw [(h4 k q (by omega)).1]; exact h (k - 1) (by omega) (by omega)
    · have big : a ≤ t → a < D k := fun q => by
        rcases Int.lt_or_le a (D k) with r | r
        · exact r
        · refine absurd ⟨q, fun j j0 j1 j2 => ?_⟩ w
          have := h j j0 j1 j2
          omega
      have gen : ∀ z, 0 ≤ z → z < n + 1 → z ≠ i → D1 z = D k → T1 z = T k → (z = k ∧ k < i ∨ z = k + 1 ∧ i ≤ k) → Ad D1 T1 (n + 1) t v := fun z z0 z1 z2 z3 z4 z5 => by
        refine Or.inr ⟨z, ⟨z0, z1, by omega, by omega⟩, fun j j0 j1 j2 => ?_⟩
        rcases Int.lt_trichotomy j i with q | q | q
        · have e1 := h1 j j0 q
          have := h j j0 (by omega) (by omega)
          omega
        · subst q
          have := big (by omega)
          omega
        · have e1 := h4 j q (by omega)
          have := h (j - 1) (by omega) (by omega) (by omega)
          omega
      by_cases q : k < i
      · exact gen k k0 (by omega) (by omega) (h1 k k0 q).1 (h1 k k0 q).2 (Or.inl ⟨rfl, q⟩)
      · have e1 := h4 (k + 1) (by omega) (by omega)
        rw [show k + 1 - 1 = k by omega] at e1
        exact gen (k + 1) (by omega) (by omega) (by omega) e1.1 e1.2 (Or.inr ⟨rfl, by omega⟩)
theorem Ins.mem {D T D1 T1 : Int → Int} {n i a b t : Int} (h : Ins D T D1 T1 n i a b) : (∃ k, 0 ≤ k ∧ k < n + 1 ∧ D1 k = t) ↔ t = a ∨ ∃ k, 0 ≤ k ∧ k < n ∧ D k = t := by
  obtain ⟨hi, h1, ⟨h2, h3⟩, h4, h5⟩ := h
  constructor
  · rintro ⟨k, k0, k1, e⟩
    rcases Int.lt_trichotomy k i with q | q | q
    · exact Or.inr ⟨k, k0, by omega, by rw [← (h1 k k0 q).1]; exact e⟩
    · subst q; exact Or.inl (by omega)
    · exact Or.inr ⟨k - 1, by omega, by omega, by rw [← (h4 k q (by omega)).1]; exact e⟩
  · rintro (e | ⟨k, k0, k1, e⟩)
    · exact ⟨i, by omega, by omega, by omega⟩
    · by_cases q : k < i
      · exact ⟨k, k0, by omega, by rw [(h1 k k0 q).1]; exact e⟩
      · have e1 := (h4 (k + 1) (by omega) (by omega)).1
        rw [show k + 1 - 1 = k by omega] at e1
        exact ⟨k + 1, by omega, by omega, by omega⟩
/-- the moves of a person: sorted by days here, as they were told there -/
def Mv (D T D' T' : Int → Int) (n : Int) : Prop := (∀ i j, 0 ≤ i → i ≤ j → j < n → D i ≤ D j) ∧ (∀ t, (∃ k, 0 ≤ k ∧ k < n ∧ D k = t) ↔ ∃ k, 0 ≤ k ∧ k < n ∧ D' k = t) ∧ (∀ t v, Ad D T n t v ↔ Ad D' T' n t v) ∧ (∀ k, 0 ≤ k → k < n → -1 ≤ T' k ∧ T' k ≤ 999) ∧ ∀ k, 0 ≤ k → k < n → -36524 ≤ D' k ∧ D' k ≤ 36524
theorem Mv.so {D T D' T' : Int → Int} {n : Int} (h : Mv D T D' T' n) : ∀ i j, 0 ≤ i → i ≤ j → j < n → D i ≤ D j := h.1
theorem Mv.me {D T D' T' : Int → Int} {n : Int} (h : Mv D T D' T' n) : ∀ t, (∃ k, 0 ≤ k ∧ k < n ∧ D k = t) ↔ ∃ k, 0 ≤ k ∧ k < n ∧ D' k = t := h.2.1
theorem Mv.ad {D T D' T' : Int → Int} {n : Int} (h : Mv D T D' T' n) : ∀ t v, Ad D T n t v ↔ Ad D' T' n t v := h.2.2.1
theorem Mv.rT {D T D' T' : Int → Int} {n : Int} (h : Mv D T D' T' n) : ∀ k, 0 ≤ k → k < n → -1 ≤ T' k ∧ T' k ≤ 999 := h.2.2.2.1
theorem Mv.rD {D T D' T' : Int → Int} {n : Int} (h : Mv D T D' T' n) : ∀ k, 0 ≤ k → k < n → -36524 ≤ D' k ∧ D' k ≤ 36524 := h.2.2.2.2
theorem Mv.ins {D T D' T' D1 T1 D1' T1' : Int → Int} {n i a b : Int} (h : Mv D T D' T' n) (hn : 0 ≤ n) (h1 : Ins D T D1 T1 n i a b) (h2 : Ins D' T' D1' T1' n n a b) (hi : i = 0 ∨ D (i - 1) ≤ a) (hb : -1 ≤ b ∧ b ≤ 999) (ha : -36524 ≤ a ∧ a ≤ 36524) : Mv D1 T1 D1' T1' (n + 1) := by
  refine ⟨fun x y x0 xy y1 => ?_, fun t => ?_, fun t v => ?_, fun k k0 k1 => ?_, fun k k0 k1 => ?_⟩
  · obtain ⟨hi2, q1, ⟨q2, q3⟩, q4, q5⟩ := h1
    rcases Int.lt_trichotomy x i with e | e | e
    · rw [(q1 x x0 e).1]
      rcases Int.lt_trichotomy y i with f | f | f
      · rw [(q1 y (by omega) f).1]; exact h.so x y x0 xy (by omega)
      · subst f
        rw [q2]
        have := h.so x (y - 1) x0 (by omega) (by omega)
        omega
      · rw [(q4 y f (by omega)).1]
        exact h.so x (y - 1) x0 (by omega) (by omega)
    · subst e
      rw [q2]
      rcases Int.lt_trichotomy y x with f | f | f
      · omega
      · subst f; omega
      · rw [(q4 y f (by omega)).1]
        have := q5 (y - 1) (by omega) (by omega)
        omega
    · rw [(q4 x e (by omega)).1, (q4 y (by omega) (by omega)).1]
      exact h.so (x - 1) (y - 1) (by omega) (by omega) (by omega)
  · rw [h1.mem, h2.mem, h.me t]
  · have e : (∀ k, 0 ≤ k → k < n → D k ≤ t → D k ≤ a) ↔ (∀ k, 0 ≤ k → k < n → D' k ≤ t → D' k ≤ a) := by
      constructor
      · intro q k k0 k1 k2
        obtain ⟨j, j0, j1, j2⟩ := (h.me (D' k)).mpr ⟨k, k0, k1, rfl⟩
        have := q j j0 j1 (by omega)
        omega
      · intro q k k0 k1 k2
        obtain ⟨j, j0, j1, j2⟩ := (h.me (D k)).mp ⟨k, k0, k1, rfl⟩
        have := q j j0 j1 (by omega)
        omega
    rw [h1.ad, h2.ad, h.ad t v, e]
  · by_cases e : k = n
    · subst e; rw [h2.2.2.1.2]; exact hb
    · rw [(h2.2.1 k k0 (by omega)).2]; exact h.rT k k0 (by omega)
  · by_cases e : k = n
    · subst e; rw [h2.2.2.1.1]; exact ha
    · rw [(h2.2.1 k k0 (by omega)).1]; exact h.rD k k0 (by omega)
