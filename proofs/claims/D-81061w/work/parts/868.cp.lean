/-! LEVEL 3: both readers side by side -/
set_option maxRecDepth 100000
/-- the least place of what is wrong, on both sides -/
def Wr (a b : Dt) : Prop := (a 10 9 = -1 ∧ b 1545 31 = 2147483647) ∨ (a 10 9 = b 1545 31 ∧ 0 ≤ a 10 9 ∧ a 10 9 ≤ 4000)
def RL (t : Int → Int) (n : Int) (N : Nat) (a b : Dt) (i : Nat) : Prop := LX t n a i ∧ LM t n N b i ∧ Wr a b
/-- something at p or ahead of it is wrong -/
def Bl (a : Dt) (p : Int) : Prop := a 10 9 ≠ -1 ∧ a 10 9 ≤ p
def Wm (a x : Dt) : Prop := a 10 9 ≠ -1 → x 10 9 ≠ -1 ∧ x 10 9 ≤ a 10 9
theorem Wm.refl {a : Dt} : Wm a a := fun h => ⟨h, Int.le_refl _⟩
theorem Wm.trans {a x z : Dt} (h : Wm a x) (h' : Wm x z) : Wm a z := fun q => by
  have u := h q
  have v := h' u.1
  exact ⟨v.1, by omega⟩
theorem Bl.mono {a x : Dt} {p q : Int} (h : Bl a p) (hw : Wm a x) (hp : p ≤ q) : Bl x q := by
  have u := hw h.1
  have v := h.2
  exact ⟨u.1, by omega⟩
def SS (t : Int → Int) (n : Int) (N : Nat) (a b x y : Dt) (j : Nat) : Prop := FX a x ∧ FM b y ∧ Wm a x ∧ RL t n N x y j
theorem SS.refl {t : Int → Int} {n : Int} {N : Nat} {a b : Dt} {i : Nat} (h : RL t n N a b i) : SS t n N a b a b i := ⟨FX.refl, FM.refl, Wm.refl, h⟩
theorem SS.trans {t : Int → Int} {n : Int} {N : Nat} {a b x y x' y' : Dt} {j k : Nat} (h : SS t n N a b x y j) (h' : SS t n N x y x' y' k) : SS t n N a b x' y' k := ⟨h.1.trans h'.1, h.2.1.trans h'.2.1, h.2.2.1.trans h'.2.2.1, h'.2.2.2⟩
/-- X's call and M's, side by side: both fail, or both go on -/
def CP (A : Option (Dt × Option Int)) (B : Option (Dt × Int)) (E : Dt → Dt → Prop) (Q : Int → Dt → Dt → Prop) : Prop := wp A (fun x => wp B (fun y => (x.2 = none ∧ y.2 = 0 ∧ E x.1 y.1) ∨ ∃ v, x.2 = some v ∧ y.2 = 1 ∧ Q v x.1 y.1))
theorem CP.bx {A : Option (Dt × Option Int)} {B : Option (Dt × Int)} {E E' : Dt → Dt → Prop} {Q Q' : Int → Dt → Dt → Prop} {k : Dt → Int → Option (Dt × Option Int)} {f : Dt → Int → Option (Dt × Int)} (h : CP A B E Q) (he : ∀ x y, E x y → wp (f y 0) (fun z => z.2 = 0 ∧ E' x z.1)) (hq : ∀ v x y, Q v x y → CP (k x v) (f y 1) E' Q') : CP (bx A (fun d => some (d, none)) k) (b2 B f) E' Q' := by
  obtain ⟨⟨x, o⟩, e1, ⟨y, r⟩, e2, hr⟩ := h
  unfold CP
  rw [e1, e2]
  dsimp only at hr
  rcases hr with ⟨rfl, rfl, hE⟩ | ⟨v, rfl, rfl, hQ⟩
  · refine wp_some.mpr ?_
    rw [wp_b2, wp_some]
    exact (he x y hE).mono fun z hz => Or.inl ⟨rfl, hz.1, hz.2⟩
  · have := hq v x y hQ
    unfold CP at this
    show wp (k x v) _
    refine this.mono fun x' hx' => ?_
    rw [wp_b2, wp_some]
    exact hx'
theorem CP.mono {A : Option (Dt × Option Int)} {B : Option (Dt × Int)} {E E' : Dt → Dt → Prop} {Q Q' : Int → Dt → Dt → Prop} (h : CP A B E Q) (he : ∀ x y, E x y → E' x y) (hq : ∀ v x y, Q v x y → Q' v x y) : CP A B E' Q' := by
  refine wp.mono h fun x hx => hx.mono fun y hy => ?_
  rcases hy with ⟨a, b, c⟩ | ⟨v, a, b, c⟩
  · exact Or.inl ⟨a, b, he _ _ c⟩
  · exact Or.inr ⟨v, a, b, hq v _ _ c⟩
theorem CP.ret {x y : Dt} {v : Int} {E : Dt → Dt → Prop} {Q : Int → Dt → Dt → Prop} (h : Q v x y) : CP (some (x, some v)) (some (y, 1)) E Q := wp_some.mpr (wp_some.mpr (Or.inr ⟨v, rfl, rfl, h⟩))
theorem CP.bad {x y : Dt} {E : Dt → Dt → Prop} {Q : Int → Dt → Dt → Prop} (h : E x y) : CP (some (x, none)) (some (y, 0)) E Q := wp_some.mpr (wp_some.mpr (Or.inl ⟨rfl, rfl, h⟩))
/-- M's call in the end -/
theorem CP.tail {A : Option (Dt × Option Int)} {B : Option (Dt × Int)} {E : Dt → Dt → Prop} {Q : Int → Dt → Dt → Prop} (h : CP A B E Q) : CP A (b2 B fun d r => ck (r = 0 ∨ r = 1) (some (d, r))) E Q := by
  refine wp.mono h fun x hx => ?_
  rw [wp_b2]
  refine hx.mono fun y hy => ?_
  obtain ⟨y, r⟩ := y
  dsimp only at hy ⊢
  rw [wp_ck, wp_some]
  refine ⟨?_, hy⟩
  rcases hy with ⟨_, b, _⟩ | ⟨v, _, b, _⟩
  · exact Or.inl b
  · exact Or.inr b
/-- X takes a step ahead -/
theorem CP.tk {A : Option Dt} {k : Dt → Option (Dt × Option Int)} {B : Option (Dt × Int)} {E : Dt → Dt → Prop} {Q : Int → Dt → Dt → Prop} {P : Dt → Prop} (h : wp A P) (hk : ∀ x, P x → CP (k x) B E Q) : CP (bd A k) B E Q := by
  obtain ⟨x, e, p⟩ := h
  have := hk x p
  unfold CP at this ⊢
  rw [e]
  exact this
def Ef (a b x y : Dt) : Prop := FX a x ∧ FM b y ∧ x 11 0 = y 1545 30 ∧ 0 ≤ x 11 0 ∧ x 11 0 ≤ 4000
theorem Ef.of {t : Int → Int} {n : Int} {N : Nat} {a b x y x' y' : Dt} {j : Nat} (h : SS t n N a b x y j) (h' : Ef x y x' y') : Ef a b x' y' := ⟨h.1.trans h'.1, h.2.1.trans h'.2.1, h'.2.2⟩
theorem RL.miss {t : Int → Int} {n : Int} {N : Nat} {a b : Dt} {i : Nat} (h : RL t n N a b i) {Q : Int → Dt → Dt → Prop} : CP (b2 (fX2_bad a) fun d4 _ => some (d4, none)) (b2 (fX11_miss b) fun d5 x7 => ck (x7 = 0 ∨ x7 = 1) (some (d5, x7))) (Ef a b) Q := by
  obtain ⟨hx, ⟨hm, hi, hN⟩, hw⟩ := h
  obtain ⟨-, -, h3, -, ⟨h5, -⟩, -⟩ := hx
  obtain ⟨-, -, -, h4, -, -, h7⟩ := hm
  have s := sp_in (t := t) h3.1 i
  unfold CP fX2_bad fX11_miss
  rw [wp_b2, wp_sd, wp_some, wp_some, wp_b2, wp_lv, hi, wp_ck]
  refine ⟨by omega, ?_⟩
  rw [wp_sd, wp_some, wp_ck, wp_some]
  refine ⟨Or.inl rfl, Or.inl ⟨rfl, rfl, fun p q u v => st_na v, fun p q u => ?_, ?_, ?_⟩⟩
  · dsimp only
    unfold st
    rw [if_neg (by omega)]
  · dsimp only
    rw [st_eq, st_eq, (h4 i hN).1, h5]
  · dsimp only
    rw [st_eq, h5]; omega
/-- a plain miss of M -/
theorem RL.miss' {t : Int → Int} {n : Int} {N : Nat} {a b : Dt} {i : Nat} (h : RL t n N a b i) {Q : Int → Dt → Dt → Prop} : CP (b2 (fX2_bad a) fun d4 _ => some (d4, none)) (fX11_miss b) (Ef a b) Q := by
  have q := h.miss (Q := Q)
  unfold CP at q ⊢
  refine q.mono fun x hx => ?_
  rw [wp_b2] at hx
  refine hx.mono fun y hy => ?_
  rw [wp_ck, wp_some] at hy
  exact hy.2
/-! notes and blames -/
def nt (a : Dt) (g p : Int) : Dt := if g = 0 ∧ (a 10 9 = -1 ∨ p < a 10 9) then st a 10 9 p else a
theorem note_X {a : Dt} {g p : Int} : fX2_note a g p = some (nt a g p) := by
  unfold fX2_note fX2_note_20 nt sd
  by_cases h : g = 0
  · rw [if_pos h]
    by_cases q : a 10 9 = -1
    · rw [if_pos q, if_pos ⟨h, Or.inl q⟩]
    · rw [if_neg q]
      by_cases r : a 10 9 ≤ p
      · rw [if_pos r, if_neg (by omega)]
      · rw [if_neg r, if_pos ⟨h, Or.inr (by omega)⟩]
  · rw [if_neg h, if_neg (fun z => h z.1)]
def bl (b : Dt) (p : Int) : Dt := st b 1545 31 (if b 1545 31 ≤ p then b 1545 31 else p)
theorem blame_M {b : Dt} {p : Int} : fX11_blame b p = some (bl b p) := by
  unfold fX11_blame bl sd
  rw [min_if]
theorem st_self {d : Dt} {a k v : Int} (h : d a k = v) : st d a k v = d := funext fun x => funext fun y => by
  unfold st
  by_cases z : x = a ∧ y = k
  · rw [if_pos z, ← h, z.1, z.2]
  · rw [if_neg z]
theorem nt_1 {a : Dt} {p : Int} : nt a 1 p = a := by unfold nt; rw [if_neg (by omega)]
theorem nt_no {a : Dt} {g p : Int} (h : g ≠ 0) : nt a g p = a := by unfold nt; rw [if_neg (by omega)]
theorem nt_bl {a : Dt} {g p : Int} (h : Bl a p) : nt a g p = a := by
  unfold nt
  have := h.1
  have := h.2
  rw [if_neg (by omega)]
theorem bl_bl {a b : Dt} {p : Int} (h : Bl a p) (hw : Wr a b) : bl b p = b := by
  unfold bl
  have := h.1
  have := h.2
  unfold Wr at hw
  rw [if_pos (by omega)]
  exact st_self rfl
theorem nt_FX {a : Dt} {g p : Int} : FX a (nt a g p) := fun x y u v => by
  unfold nt
  split
  · unfold st; rw [if_neg (by omega)]
  · rfl
theorem bl_FM {b : Dt} {p : Int} : FM b (bl b p) := fun x y u => by
  unfold bl st
  rw [if_neg (by omega)]
theorem nt_Wm {a : Dt} {g p : Int} (hp : 0 ≤ p) : Wm a (nt a g p) := fun h => by
  unfold nt
  split
  · rename_i z
    rw [st_eq]
    omega
  · exact ⟨h, Int.le_refl _⟩
theorem LX.cg {t : Int → Int} {n : Int} {a x : Dt} {i : Nat} (h : LX t n a i) (hf : ∀ p q, (p = 2 ∨ (p = 10 ∧ 4 ≤ q ∧ q ≤ 8) ∨ p = 14) → x p q = a p q) : LX t n x i := by
  obtain ⟨h1, h2, h3, h4, ⟨h5, h6, h7⟩, h8, h9, h10⟩ := h
  refine ⟨?_, ?_, h3, fun k k0 k1 => ?_, ⟨?_, ?_, ?_⟩, fun z => ?_, fun z => ?_, fun z => ?_⟩
  · rw [← h1]; exact funext fun k => hf 2 k (by omega)
  · rw [hf _ _ (by omega)]; exact h2
  · rw [hf _ _ (by omega)]; exact h4 k k0 k1
  · rw [hf _ _ (by omega)]; exact h5
  · rw [hf _ _ (by omega)]; exact h6
  · rw [hf _ _ (by omega)]; exact h7
  · rw [hf _ _ (by omega)]; exact h8 z
  · rw [hf _ _ (by omega)]; exact h9 z
  · rw [hf _ _ (by omega)]; exact h10 z
theorem nt_at {a : Dt} {g p x y : Int} (h : ¬ (x = 10 ∧ y = 9)) : nt a g p x y = a x y := by
  unfold nt
  split
  · unfold st; rw [if_neg h]
  · rfl
theorem bl_at {b : Dt} {p x y : Int} (h : ¬ (x = 1545 ∧ y = 31)) : bl b p x y = b x y := by
  unfold bl st; rw [if_neg h]
theorem Wr.nb {a b : Dt} {p : Int} (h : Wr a b) (hp : 0 ≤ p ∧ p ≤ 4000) : Wr (nt a 0 p) (bl b p) ∧ Bl (nt a 0 p) p := by
  unfold nt bl Wr Bl at *
  rw [st_eq]
  by_cases q : a 10 9 = -1 ∨ p < a 10 9
  · rw [if_pos ⟨rfl, q⟩, st_eq]
    by_cases r : b 1545 31 ≤ p
    · rw [if_pos r]; omega
    · rw [if_neg r]; omega
  · rw [if_neg (fun z => q z.2)]
    by_cases r : b 1545 31 ≤ p
    · rw [if_pos r]; omega
    · rw [if_neg r]; omega
theorem LM.cg {t : Int → Int} {n : Int} {N : Nat} {b y : Dt} {i : Nat} (h : LM t n N b i) (hf : FM b y) (h29 : y 1545 29 = b 1545 29) : LM t n N y i := ⟨h.1.cg hf, by rw [h29]; exact h.2.1, h.2.2⟩
/-- both blame the same place -/
theorem RL.nb {t : Int → Int} {n : Int} {N : Nat} {a b : Dt} {i : Nat} (h : RL t n N a b i) {p : Int} (hp : 0 ≤ p ∧ p ≤ 4000) : SS t n N a b (nt a 0 p) (bl b p) i ∧ Bl (nt a 0 p) p :=
  ⟨⟨nt_FX, bl_FM, nt_Wm hp.1, h.1.cg (fun _ _ z => nt_at (by omega)), h.2.1.cg bl_FM (bl_at (by decide)), (h.2.2.nb hp).1⟩, (h.2.2.nb hp).2⟩
theorem RL.sp {t : Int → Int} {n : Int} {N : Nat} {a b : Dt} {i : Nat} (h : RL t n N a b i) : a 10 5 = sp t n i ∧ (0 ≤ sp t n i ∧ sp t n i ≤ 4000) ∧ (i : Int) < 4002 ∧ b 1545 29 = i ∧ b 1566 i = sp t n i := by
  obtain ⟨⟨-, -, h3, -, ⟨h5, -⟩, -⟩, ⟨⟨-, -, -, h4, -, -, h7⟩, hi, hN⟩, -⟩ := h
  have s := sp_in (t := t) h3.1 i
  exact ⟨h5, by omega, by omega, hi, (h4 i hN).1⟩
/-- M goes one sign ahead -/
def nxb (b : Dt) : Dt := st b 1545 29 (w32 (b 1545 29 + 1))
theorem nx_FM {b : Dt} : FM b (nxb b) := fun p q u => by unfold nxb st; rw [if_neg (by omega)]
theorem nx_at {b : Dt} {x y : Int} (h : ¬ (x = 1545 ∧ y = 29)) : nxb b x y = b x y := by unfold nxb st; rw [if_neg h]
theorem LM.nx {t : Int → Int} {n : Int} {N : Nat} {b : Dt} {i : Nat} (h : LM t n N b i) (hi : i < N) : LM t n N (nxb b) (i + 1) := by
  have hN := h.1.2.2.2.2.2.2
  refine ⟨h.1.cg nx_FM, ?_, by omega⟩
  unfold nxb
  rw [st_eq, h.2.1, w32_o (by omega)]
  omega
/-- both go one sign ahead -/
theorem RL.take {t : Int → Int} {n : Int} {N : Nat} {a b : Dt} {i : Nat} (h : RL t n N a b i) (hi : i < N) : wp (fX2_take a) (fun x => SS t n N a b x (nxb b) (i + 1)) := by
  refine h.1.take.mono fun x hx => ?_
  obtain ⟨x1, x2, x3⟩ := hx
  refine ⟨x2, nx_FM, fun q => by rw [x3]; exact ⟨q, Int.le_refl _⟩, x1, h.2.1.nx hi, ?_⟩
  have w := h.2.2
  unfold Wr at w ⊢
  rw [x3, nx_at (by decide)]
  exact w
theorem RL.lt_k {t : Int → Int} {n : Int} {N : Nat} {a b : Dt} {i : Nat} (h : RL t n N a b i) (hk : kd t n i = 1 ∨ kd t n i = 2) : i < N := by
  obtain ⟨-, ⟨⟨-, -, -, -, -, h6, -⟩, -, hN⟩, -⟩ := h
  rcases Nat.lt_or_ge i N with q | q
  · exact q
  · have : i = N := by omega
    subst this
    have k := ms_k (t := t) (n := n) (i := i)
    omega
theorem RL.lt_g {t : Int → Int} {n : Int} {N : Nat} {a b : Dt} {i : Nat} (h : RL t n N a b i) {c : Int} (hc : isG c) (hs : sg t n i = c) : i < N := by
  obtain ⟨-, ⟨⟨-, -, -, -, -, h6, -⟩, -, hN⟩, -⟩ := h
  rcases Nat.lt_or_ge i N with q | q
  · exact q
  · have : i = N := by omega
    subst this
    have k := (ms_g (t := t) (n := n) (i := i) hc).mpr hs
    unfold isG at hc
    omega
theorem wd_kd {t : Int → Int} {n : Int} {i : Nat} {w : Int} (hw : 0 ≤ w) (h : wd t n i = w) : kd t n i = 1 := by
  by_cases k : kd t n i = 1
  · exact k
  · unfold wd at h
    rw [if_neg k] at h
    omega
theorem RL.lt_w {t : Int → Int} {n : Int} {N : Nat} {a b : Dt} {i : Nat} (h : RL t n N a b i) {w : Int} (hw : 0 ≤ w) (hs : wd t n i = w) : i < N := h.lt_k (Or.inl (wd_kd hw hs))
theorem nu_in {t : Int → Int} {n : Int} {i : Nat} (hn : 0 ≤ n) (hk : kd t n i = 2) : 0 ≤ nu t n i ∧ nu t n i ≤ 99999 := by
  unfold nu nuV
  by_cases q : en t n i - sp t n i ≤ 5
  · rw [if_pos q]
    have e := en_in (t := t) hn i
    have r := ru_in (p := isDi t) (sp_in (t := t) hn i).2
    have ee : en t n i = ru (isDi t) n (sp t n i) := by
      show sgE t n (sp t n i) = _
      have : sgK t n (sp t n i) = 2 := hk
      unfold sgE
      rw [if_neg (by omega), if_pos this]
    have b := dgV_in (t := t) (a := sp t n i) (en t n i - sp t n i).toNat (fun k k0 k1 => r.2.2 _ (by omega) (by omega))
    have b2 := (show ∀ n : Nat, n < 6 → (10 : Int) ^ n ≤ 100000 by decide) (en t n i - sp t n i).toNat (by omega)
    omega
  · rw [if_neg q]; decide
