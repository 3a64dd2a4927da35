/-! LEVEL 3: what the pure functions do. wp x P: x is there, and has P -/
def wp {α : Type} (x : Option α) (P : α → Prop) : Prop := ∃ r, x = some r ∧ P r
theorem wp_some {α : Type} {r : α} {P : α → Prop} : wp (some r) P ↔ P r := ⟨fun ⟨_, e, h⟩ => by cases e; exact h, fun h => ⟨r, rfl, h⟩⟩
theorem wp_none {α : Type} {P : α → Prop} : wp none P ↔ False := ⟨fun ⟨_, e, _⟩ => (by cases e), fun h => h.elim⟩
theorem wp_ck {α : Type} {p : Prop} [Decidable p] {k : Option α} {P : α → Prop} : wp (ck p k) P ↔ p ∧ wp k P := by
  unfold ck
  by_cases h : p
  · rw [if_pos h]; exact ⟨fun q => ⟨h, q⟩, fun q => q.2⟩
  · rw [if_neg h]; exact ⟨fun q => (wp_none.mp q).elim, fun q => absurd q.1 h⟩
theorem wp_lv {α : Type} {e : Int} {f : Int → Option α} {P : α → Prop} : wp (lv e f) P ↔ wp (f e) P := Iff.rfl
theorem wp_lm {α : Type} {e : Dt} {f : Dt → Option α} {P : α → Prop} : wp (lm e f) P ↔ wp (f e) P := Iff.rfl
theorem wp_sd {α : Type} {d : Dt} {a k v : Int} {f : Dt → Option α} {P : α → Prop} : wp (sd d a k v f) P ↔ wp (f (st d a k v)) P := Iff.rfl
theorem wp_bind {α β : Type} {x : Option α} {f : α → Option β} {P : β → Prop} : wp (x.bind f) P ↔ wp x (fun v => wp (f v) P) := by
  cases x with
  | none => exact ⟨fun q => (wp_none.mp q).elim, fun q => (wp_none.mp q).elim⟩
  | some v => rw [wp_some]; exact Iff.rfl
theorem wp_b1 {α : Type} {x : Option Int} {f : Int → Option α} {P : α → Prop} : wp (b1 x f) P ↔ wp x (fun v => wp (f v) P) := wp_bind
theorem wp_bd {α : Type} {x : Option Dt} {f : Dt → Option α} {P : α → Prop} : wp (bd x f) P ↔ wp x (fun v => wp (f v) P) := wp_bind
theorem wp_b2 {α : Type} {x : Option (Dt × Int)} {f : Dt → Int → Option α} {P : α → Prop} : wp (b2 x f) P ↔ wp x (fun v => wp (f v.1 v.2) P) := wp_bind
theorem wp_b3 {α : Type} {x : Option (Dt × Dt × Int)} {f : Dt → Dt → Int → Option α} {P : α → Prop} : wp (b3 x f) P ↔ wp x (fun v => wp (f v.1 v.2.1 v.2.2) P) := wp_bind
theorem wp_map {α β : Type} {x : Option α} {f : α → β} {P : β → Prop} : wp (x.map f) P ↔ wp x (fun v => P (f v)) := by
  cases x with
  | none => exact ⟨fun q => (wp_none.mp q).elim, fun q => (wp_none.mp q).elim⟩
  | some v => show wp (some (f v)) P ↔ _; rw [wp_some, wp_some]
theorem wp_up {α β : Type} {x : Option α} {P : β ⊕ α → Prop} : wp (up x) P ↔ wp x (fun r => P (.inr r)) := wp_map
theorem wp_ite {α : Type} {c : Prop} [Decidable c] {a b : Option α} {P : α → Prop} : wp (if c then a else b) P ↔ (c → wp a P) ∧ (¬ c → wp b P) := by
  by_cases h : c
  · rw [if_pos h]; exact ⟨fun q => ⟨fun _ => q, fun n => absurd h n⟩, fun q => q.1 h⟩
  · rw [if_neg h]; exact ⟨fun q => ⟨fun n => absurd n h, fun _ => q⟩, fun q => q.2 h⟩
theorem wp_bx {α : Type} {x : Option (Dt × Option Int)} {t : Dt → Option α} {k : Dt → Int → Option α} {P : α → Prop} : wp (bx x t k) P ↔ wp x (fun v => match v.2 with | none => wp (t v.1) P | some z => wp (k v.1 z) P) := by
  cases x with
  | none => exact ⟨fun q => (wp_none.mp q).elim, fun q => (wp_none.mp q).elim⟩
  | some v =>
    obtain ⟨d, o⟩ := v
    rw [wp_some]
    cases o with
    | none => exact Iff.rfl
    | some z => exact Iff.rfl
theorem wp.mono {α : Type} {x : Option α} {P Q : α → Prop} (h : wp x P) (hPQ : ∀ r, P r → Q r) : wp x Q := by
  obtain ⟨r, e, p⟩ := h
  exact ⟨r, e, hPQ r p⟩
theorem wp.of_eq {α : Type} {x : Option α} {P : α → Prop} {r : α} (e : x = some r) (h : P r) : wp x P := ⟨r, e, h⟩
theorem wp.get {α : Type} {x : Option α} {P : α → Prop} {r : α} (h : wp x P) (e : x = some r) : P r := by
  obtain ⟨r', e', p⟩ := h
  cases e.symm.trans e'
  exact p
/-- a loop, by a word that holds with a measure that falls -/
theorem wp_loop {σ ρ : Type} {f : σ → Option (σ ⊕ ρ)} {P : ρ → Prop} (I : Nat → σ → Prop) (h : ∀ n s, I n s → wp (f s) (fun r => match r with | .inl s' => ∃ n', n' < n ∧ I n' s' | .inr z => P z)) : ∀ {n : Nat} {s : σ}, I n s → wp (loop f s) P := by
  intro n
  induction n using Nat.strongRecOn with
  | _ n ih =>
    intro s hi
    obtain ⟨r, e, hr⟩ := h n s hi
    cases r with
    | inl s' =>
      obtain ⟨n', hl, hi'⟩ := hr
      obtain ⟨z, e2, p⟩ := ih n' hl hi'
      exact ⟨z, loop_go e e2, p⟩
    | inr z => exact ⟨z, loop_end e, hr⟩
/-- a loop that ends at once -/
theorem loop_wp {σ ρ : Type} {f : σ → Option (σ ⊕ ρ)} {P : ρ → Prop} {s : σ} (h : wp (f s) (fun r => ∃ z, r = .inr z ∧ P z)) : wp (loop f s) P := by
  obtain ⟨r, e, z, rfl, p⟩ := h
  exact ⟨z, loop_end e, p⟩
/-- counting up, the store changes -/
theorem wp_for {ρ : Type} {f : Dt × Int → Option ((Dt × Int) ⊕ ρ)} {P : ρ → Prop} (I : Int → Dt → Prop) (lo hi : Int) (hle : lo ≤ hi) (hstep : ∀ k d, lo ≤ k → k < hi → I k d → wp (f (d, k)) (fun r => ∃ d', r = .inl (d', k + 1) ∧ I (k + 1) d')) (hend : ∀ d, I hi d → wp (f (d, hi)) (fun r => ∃ z, r = .inr z ∧ P z)) {d : Dt} (h0 : I lo d) : wp (loop f (d, lo)) P := by
  refine wp_loop (n := (hi - lo).toNat) (fun n s => lo ≤ s.2 ∧ s.2 ≤ hi ∧ (hi - s.2).toNat = n ∧ I s.2 s.1) (fun n s hs => ?_) ⟨Int.le_refl _, hle, rfl, h0⟩
  obtain ⟨d, k⟩ := s
  obtain ⟨h1, h2, h3, h4⟩ := hs
  dsimp only at h1 h2 h3 h4
  by_cases e : k = hi
  · subst e
    refine (hend d h4).mono fun r hr => ?_
    obtain ⟨z, rfl, p⟩ := hr
    exact p
  · refine (hstep k d h1 (by omega) h4).mono fun r hr => ?_
    obtain ⟨d', rfl, p⟩ := hr
    exact ⟨(hi - (k + 1)).toNat, by omega, by show lo ≤ k + 1; omega, by show k + 1 ≤ hi; omega, rfl, p⟩
/-- counting up, leaving perhaps before the end -/
theorem wp_forX {ρ : Type} {f : Dt × Int → Option ((Dt × Int) ⊕ ρ)} {P : ρ → Prop} (I : Int → Dt → Prop) (lo hi : Int) (hle : lo ≤ hi) (hstep : ∀ k d, lo ≤ k → k < hi → I k d → wp (f (d, k)) (fun r => (∃ d', r = .inl (d', k + 1) ∧ I (k + 1) d') ∨ ∃ z, r = .inr z ∧ P z)) (hend : ∀ d, I hi d → wp (f (d, hi)) (fun r => ∃ z, r = .inr z ∧ P z)) {d : Dt} (h0 : I lo d) : wp (loop f (d, lo)) P := by
  refine wp_loop (n := (hi - lo).toNat) (fun n s => lo ≤ s.2 ∧ s.2 ≤ hi ∧ (hi - s.2).toNat = n ∧ I s.2 s.1) (fun n s hs => ?_) ⟨Int.le_refl _, hle, rfl, h0⟩
  obtain ⟨d, k⟩ := s
  obtain ⟨h1, h2, h3, h4⟩ := hs
  dsimp only at h1 h2 h3 h4
  by_cases e : k = hi
  · subst e
    refine (hend d h4).mono fun r hr => ?_
    obtain ⟨z, rfl, p⟩ := hr
    exact p
  · refine (hstep k d h1 (by omega) h4).mono fun r hr => ?_
    rcases hr with ⟨d', rfl, p⟩ | ⟨z, rfl, p⟩
    · exact ⟨(hi - (k + 1)).toNat, by omega, by show lo ≤ k + 1; omega, by show k + 1 ≤ hi; omega, rfl, p⟩
    · exact p
/-- counting up, nothing else changes -/
theorem wp_up1 {ρ : Type} {f : Int → Option (Int ⊕ ρ)} {P : ρ → Prop} (I : Int → Prop) (lo hi : Int) (hle : lo ≤ hi) (hstep : ∀ k, lo ≤ k → k < hi → I k → wp (f k) (fun r => (r = .inl (k + 1) ∧ I (k + 1)) ∨ ∃ z, r = .inr z ∧ P z)) (hend : I hi → wp (f hi) (fun r => ∃ z, r = .inr z ∧ P z)) (h0 : I lo) : wp (loop f lo) P := by
  refine wp_loop (n := (hi - lo).toNat) (fun n s => lo ≤ s ∧ s ≤ hi ∧ (hi - s).toNat = n ∧ I s) (fun n k hs => ?_) ⟨Int.le_refl _, hle, rfl, h0⟩
  obtain ⟨h1, h2, h3, h4⟩ := hs
  by_cases e : k = hi
  · subst e
    refine (hend h4).mono fun r hr => ?_
    obtain ⟨z, rfl, p⟩ := hr
    exact p
  · refine (hstep k h1 (by omega) h4).mono fun r hr => ?_
    rcases hr with ⟨rfl, p⟩ | ⟨z, rfl, p⟩
    · exact ⟨(hi - (k + 1)).toNat, by omega, by omega, by omega, rfl, p⟩
    · exact p
/-- counting up with one more number -/
theorem wp_up2 {ρ : Type} {f : Int × Int → Option ((Int × Int) ⊕ ρ)} {P : ρ → Prop} (I : Int → Int → Prop) (lo hi : Int) (hle : lo ≤ hi) (hstep : ∀ v k, lo ≤ k → k < hi → I k v → wp (f (v, k)) (fun r => (∃ v', r = .inl (v', k + 1) ∧ I (k + 1) v') ∨ ∃ z, r = .inr z ∧ P z)) (hend : ∀ v, I hi v → wp (f (v, hi)) (fun r => ∃ z, r = .inr z ∧ P z)) {v : Int} (h0 : I lo v) : wp (loop f (v, lo)) P := by
  refine wp_loop (n := (hi - lo).toNat) (fun n s => lo ≤ s.2 ∧ s.2 ≤ hi ∧ (hi - s.2).toNat = n ∧ I s.2 s.1) (fun n s hs => ?_) ⟨Int.le_refl _, hle, rfl, h0⟩
  obtain ⟨v, k⟩ := s
  obtain ⟨h1, h2, h3, h4⟩ := hs
  dsimp only at h1 h2 h3 h4
  by_cases e : k = hi
  · subst e
    refine (hend v h4).mono fun r hr => ?_
    obtain ⟨z, rfl, p⟩ := hr
    exact p
  · refine (hstep v k h1 (by omega) h4).mono fun r hr => ?_
    rcases hr with ⟨v', rfl, p⟩ | ⟨z, rfl, p⟩
    · exact ⟨(hi - (k + 1)).toNat, by omega, by show lo ≤ k + 1; omega, by show k + 1 ≤ hi; omega, rfl, p⟩
    · exact p
/-! numbers -/
theorem w32_of {v : Int} (h1 : -2147483648 ≤ v) (h2 : v ≤ 2147483647) : w32 v = v := w32_id ⟨h1, h2⟩
theorem w64_of {v : Int} (h1 : -9223372036854775808 ≤ v) (h2 : v ≤ 9223372036854775807) : w64 v = v := w64_id ⟨h1, h2⟩
theorem w8_of {v : Int} (h1 : -128 ≤ v) (h2 : v ≤ 127) : w8 v = v := by unfold w8; omega
theorem w8_in (v : Int) : -128 ≤ w8 v ∧ w8 v ≤ 127 := by unfold w8; omega
theorem w8_w8 (v : Int) : w8 (w8 v) = w8 v := by unfold w8; omega
theorem st_row {d : Dt} {a k v x : Int} (h : x ≠ a) : st d a k v x = d x := funext fun _ => st_na h
/-! within, in -/
theorem within_1 {a b c : Int} : fX0_within a b c = 0 ↔ ¬ (b ≤ a ∧ a ≤ c) := by
  unfold fX0_within
  split
  · omega
  · split <;> omega
theorem within_0 {a b c : Int} : ¬ fX0_within a b c = 0 ↔ b ≤ a ∧ a ≤ c := by
  rw [within_1]
  omega
theorem jCmp_lt {a b : Int} : jCmp a b < 0 ↔ a < b := by
  unfold jCmp
  split
  · omega
  · split <;> omega
theorem jCmp_gt {a b : Int} : 0 < jCmp a b ↔ b < a := by
  unfold jCmp
  split
  · omega
  · split <;> omega
theorem jCmp_eq {a b : Int} : jCmp a b = 0 ↔ a = b := by
  unfold jCmp
  split
  · omega
  · split <;> omega
theorem in_1 {a b c : Int} : fX11_in a b c = 0 ↔ ¬ (b ≤ a ∧ a ≤ c) := by
  unfold fX11_in
  simp only [jCmp_lt, jCmp_gt]
  split
  · omega
  · split <;> omega
