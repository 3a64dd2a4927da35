/-! LEVEL 2: words of the pure functions -/
def ck {α : Type} (p : Prop) [Decidable p] (k : Option α) : Option α := if p then k else none
def lv {α : Type} (e : Int) (f : Int → α) : α := f e
def sd {α : Type} (d : Dt) (a k v : Int) (f : Dt → α) : α := f (st d a k v)
def b1 {α : Type} (x : Option Int) (f : Int → Option α) : Option α := x.bind f
def bd {α : Type} (x : Option Dt) (f : Dt → Option α) : Option α := x.bind f
def b2 {α : Type} (x : Option (Dt × Int)) (f : Dt → Int → Option α) : Option α := x.bind (fun p => f p.1 p.2)
def up {α β : Type} (x : Option α) : Option (β ⊕ α) := x.map Sum.inr
def iter {σ ρ : Type} (f : σ → Option (σ ⊕ ρ)) : Nat → σ → Option ρ
  | 0, _ => none
  | n + 1, s => match f s with
    | none => none
    | some (.inl s') => iter f n s'
    | some (.inr r) => some r
noncomputable def loop {σ ρ : Type} (f : σ → Option (σ ⊕ ρ)) (s : σ) : Option ρ := @dite _ (∃ n r, iter f n s = some r) (Classical.propDecidable _) (fun h => some (Classical.choose (Classical.choose_spec h))) (fun _ => none)
theorem iter_mono {σ ρ : Type} {f : σ → Option (σ ⊕ ρ)} : ∀ {n k : Nat} {s : σ} {r : ρ}, iter f n s = some r → n ≤ k → iter f k s = some r
  | 0, _, _, _, h, _ => by simp [iter] at h
  | n + 1, 0, _, _, _, hk => by omega
  | n + 1, k + 1, s, r, h, hk => by
    simp only [iter] at h ⊢
    split at h
    · cases h
    · rename_i s' e
      exact iter_mono h (by omega)
    · exact h
theorem loop_iff {σ ρ : Type} {f : σ → Option (σ ⊕ ρ)} {s : σ} {r : ρ} : loop f s = some r ↔ ∃ n, iter f n s = some r := by
  unfold loop
  constructor
  · intro h
    split at h
    · rename_i q
      have e := Option.some.inj h
      rw [← e]
      exact ⟨_, Classical.choose_spec (Classical.choose_spec q)⟩
    · cases h
  · rintro ⟨n, h⟩
    have q : ∃ n r, iter f n s = some r := ⟨n, r, h⟩
    rw [dif_pos q]
    have h2 := Classical.choose_spec (Classical.choose_spec q)
    have a1 := iter_mono h (Nat.le_max_left n (Classical.choose q))
    have a2 := iter_mono h2 (Nat.le_max_right n (Classical.choose q))
    exact a2.symm.trans a1
/-- one round that goes on -/
theorem loop_go {σ ρ : Type} {f : σ → Option (σ ⊕ ρ)} {s s' : σ} {r : ρ} (h : f s = some (.inl s')) (k : loop f s' = some r) : loop f s = some r := by
  obtain ⟨n, hn⟩ := loop_iff.mp k
  exact loop_iff.mpr ⟨n + 1, by simp only [iter, h]; exact hn⟩
theorem loop_end {σ ρ : Type} {f : σ → Option (σ ⊕ ρ)} {s : σ} {r : ρ} (h : f s = some (.inr r)) : loop f s = some r := loop_iff.mpr ⟨1, by simp only [iter, h]⟩
/-- what the machine does behind a loop's result, it does at its head -/
theorem loop_ok {σ ρ : Type} {f : σ → Option (σ ⊕ ρ)} {P : σ → Prop} {r : ρ} (hs : ∀ s x, f s = some x → (∀ s', x = .inl s' → P s') → (∀ z, x = .inr z → z = r) → P s) {s : σ} (h : loop f s = some r) : P s := by
  obtain ⟨n, hn⟩ := loop_iff.mp h
  clear h
  induction n generalizing s with
  | zero => simp [iter] at hn
  | succ n ih =>
    simp only [iter] at hn
    cases e : f s with
    | none => rw [e] at hn; cases hn
    | some x =>
      rw [e] at hn
      refine hs s x e (fun s' e2 => ?_) (fun z e2 => ?_)
      · subst e2
        exact ih hn
      · subst e2
        exact Option.some.inj hn
/-- by a measure that falls -/
theorem loop_inv {σ ρ : Type} {f : σ → Option (σ ⊕ ρ)} (I : σ → Prop) (μ : σ → Nat) (P : ρ → Prop) (hs : ∀ s, I s → (∃ s', f s = some (.inl s') ∧ I s' ∧ μ s' < μ s) ∨ ∃ r, f s = some (.inr r) ∧ P r) {s : σ} (h : I s) : ∃ r, loop f s = some r ∧ P r := by
  generalize hn : μ s = n
  induction n using Nat.strongRecOn generalizing s with
  | _ n ih =>
    rcases hs s h with ⟨s', e, i, l⟩ | ⟨r, e, p⟩
    · obtain ⟨r, e2, p⟩ := ih (μ s') (by omega) i rfl
      exact ⟨r, loop_go e e2, p⟩
    · exact ⟨r, loop_end e, p⟩
theorem ck_some {α : Type} {p : Prop} [Decidable p] {k : Option α} {r : α} (h : ck p k = some r) : p ∧ k = some r := by
  unfold ck at h
  split at h
  · exact ⟨by assumption, h⟩
  · cases h
theorem ck_pos {α : Type} {p : Prop} [Decidable p] {k : Option α} (h : p) : ck p k = k := if_pos h
theorem lv_some {α : Type} {e : Int} {f : Int → α} {r : α} (h : lv e f = r) : ∃ x, x = e ∧ f x = r := ⟨e, rfl, h⟩
theorem sd_some {α : Type} {d : Dt} {a k v : Int} {f : Dt → α} {r : α} (h : sd d a k v f = r) : ∃ d1, d1 = st d a k v ∧ f d1 = r := ⟨_, rfl, h⟩
theorem b1_some {α : Type} {x : Option Int} {f : Int → Option α} {r : α} (h : b1 x f = some r) : ∃ v, x = some v ∧ f v = some r := by
  unfold b1 at h
  exact Option.bind_eq_some_iff.mp h
theorem bd_some {α : Type} {x : Option Dt} {f : Dt → Option α} {r : α} (h : bd x f = some r) : ∃ v, x = some v ∧ f v = some r := by
  unfold bd at h
  exact Option.bind_eq_some_iff.mp h
theorem b2_some {α : Type} {x : Option (Dt × Int)} {f : Dt → Int → Option α} {r : α} (h : b2 x f = some r) : ∃ d v, x = some (d, v) ∧ f d v = some r := by
  unfold b2 at h
  obtain ⟨⟨d, v⟩, h1, h2⟩ := Option.bind_eq_some_iff.mp h
  exact ⟨d, v, h1, h2⟩
theorem up_some {α β : Type} {x : Option α} {r : β ⊕ α} (h : up x = some r) : ∃ z, x = some z ∧ r = .inr z := by
  unfold up at h
  obtain ⟨z, h1, h2⟩ := Option.map_eq_some_iff.mp h
  exact ⟨z, h1, h2.symm⟩
section NM
variable {w : Wd} {l : Launch} {X : Dt → Dt → Prop} {G : Cx} {Q : State → Prop} {d m d1 : Dt} {kc ks pc : Nat} {L S : List MV} {x e : Int}
theorem v_nI (h : x = e) (k : V w l X G Q d m kc ks pc L (mI x :: S)) : V w l X G Q d m kc ks pc L (mI e :: S) := h ▸ k
theorem v_nL (h : x = e) (k : V w l X G Q d m kc ks pc L (mL x :: S)) : V w l X G Q d m kc ks pc L (mL e :: S) := h ▸ k
theorem v_nA (h : x = e) (k : V w l X G Q d m kc ks pc L (mA x :: S)) : V w l X G Q d m kc ks pc L (mA e :: S) := h ▸ k
theorem v_nD (h : d1 = d) (k : V w l X G Q d1 m kc ks pc L S) : V w l X G Q d m kc ks pc L S := h ▸ k
end NM
