/-! LEVEL 3: rules with conditions that omega meets -/
set_option maxRecDepth 100000
theorem w32_o {v : Int} (h : -2147483648 ≤ v ∧ v ≤ 2147483647) : w32 v = v := w32_of h.1 h.2
theorem w64_o {v : Int} (h : -9223372036854775808 ≤ v ∧ v ≤ 9223372036854775807) : w64 v = v := w64_of h.1 h.2
theorem w8_o {v : Int} (h : -128 ≤ v ∧ v ≤ 127) : w8 v = v := w8_of h.1 h.2
theorem st_at {d : Dt} {a k v x y : Int} (h1 : x = a) (h2 : y = k) : st d a k v x y = v := by subst h1; subst h2; exact st_eq _ _ _ _
theorem st_if {d : Dt} {a k v y : Int} : st d a k v a y = if y = k then v else d a y := by
  by_cases h : y = k
  · rw [if_pos h, st_at rfl h]
  · rw [if_neg h, st_nk h]
theorem bd_s {α : Type} {x : Dt} {k : Dt → Option α} : bd (some x) k = k x := rfl
theorem b1_s {α : Type} {x : Int} {k : Int → Option α} : b1 (some x) k = k x := rfl
theorem b2_s {α : Type} {x : Dt × Int} {k : Dt → Int → Option α} : b2 (some x) k = k x.1 x.2 := rfl
theorem sd_e {α : Type} {d : Dt} {a k v : Int} {f : Dt → α} : sd d a k v f = f (st d a k v) := rfl
theorem lv_e {α : Type} {v : Int} {f : Int → α} : lv v f = f v := rfl
theorem bx_s {α : Type} {d : Dt} {v : Int} {t : Dt → Option α} {k : Dt → Int → Option α} : bx (some (d, some v)) t k = k d v := rfl
theorem bx_n {α : Type} {d : Dt} {t : Dt → Option α} {k : Dt → Int → Option α} : bx (some (d, none)) t k = t d := rfl
theorem up_s {α β : Type} {x : α} : (up (some x) : Option (β ⊕ α)) = some (.inr x) := rfl
/-! the signs of a text in a row -/
def sp (t : Int → Int) (n : Int) : Nat → Int
  | 0 => ru (isSp t) n 0
  | i + 1 => ru (isSp t) n (sgE t n (sp t n i))
def kd (t : Int → Int) (n : Int) (i : Nat) : Int := sgK t n (sp t n i)
def en (t : Int → Int) (n : Int) (i : Nat) : Int := sgE t n (sp t n i)
theorem sgE_in {t : Int → Int} {n a : Int} (h : a ≤ n) : a ≤ sgE t n a ∧ sgE t n a ≤ n ∧ (sgK t n a ≠ 0 → a < sgE t n a) := by
  unfold sgE
  by_cases q1 : sgK t n a = 1
  · rw [if_pos q1]
    have hp : a < n ∧ isLe t a = true := by
      unfold sgK at q1
      by_cases e : a = n
      · rw [if_pos e] at q1; exact absurd q1 (by decide)
      · rw [if_neg e] at q1
        by_cases l : isLe t a = true
        · exact ⟨by omega, l⟩
        · rw [if_neg l] at q1
          by_cases di : isDi t a = true
          · rw [if_pos di] at q1; exact absurd q1 (by decide)
          · rw [if_neg di] at q1; exact absurd q1 (by decide)
    have r := ru_in (p := isLe t) (n := n) (k := a + 1) (by omega)
    rw [ru_go hp.1 hp.2]
    omega
  · rw [if_neg q1]
    by_cases q2 : sgK t n a = 2
    · rw [if_pos q2]
      have hp : a < n ∧ isDi t a = true := by
        unfold sgK at q2
        by_cases e : a = n
        · rw [if_pos e] at q2; exact absurd q2 (by decide)
        · rw [if_neg e] at q2
          by_cases l : isLe t a = true
          · rw [if_pos l] at q2; exact absurd q2 (by decide)
          · rw [if_neg l] at q2
            by_cases di : isDi t a = true
            · exact ⟨by omega, di⟩
            · rw [if_neg di] at q2; exact absurd q2 (by decide)
      have r := ru_in (p := isDi t) (n := n) (k := a + 1) (by omega)
      rw [ru_go hp.1 hp.2]
      omega
    · rw [if_neg q2]
      by_cases q3 : sgK t n a = 3
      · rw [if_pos q3]
        have : a ≠ n := fun e => by
          unfold sgK at q3
          rw [if_pos e] at q3
          exact absurd q3 (by decide)
        omega
      · rw [if_neg q3]
        refine ⟨by omega, h, fun w => ?_⟩
        unfold sgK at q1 q2 q3 w
        by_cases e : a = n
        · rw [if_pos e] at w; exact absurd rfl w
        · rw [if_neg e] at q1 q2 q3
          by_cases l : isLe t a = true
          · rw [if_pos l] at q1; exact absurd rfl q1
          · rw [if_neg l] at q2 q3
            by_cases di : isDi t a = true
            · rw [if_pos di] at q2; exact absurd rfl q2
            · rw [if_neg di] at q3; exact absurd rfl q3
theorem sgK_in {t : Int → Int} {n a : Int} : (sgK t n a = 0 ∧ a = n) ∨ (a ≠ n ∧ (sgK t n a = 1 ∨ sgK t n a = 2 ∨ sgK t n a = 3)) := by
  unfold sgK
  by_cases e : a = n
  · rw [if_pos e]; exact Or.inl ⟨rfl, e⟩
  · rw [if_neg e]
    refine Or.inr ⟨e, ?_⟩
    by_cases l : isLe t a = true
    · rw [if_pos l]; exact Or.inl rfl
    · rw [if_neg l]
      by_cases di : isDi t a = true
      · rw [if_pos di]; exact Or.inr (Or.inl rfl)
      · rw [if_neg di]; exact Or.inr (Or.inr rfl)
theorem sp_in {t : Int → Int} {n : Int} (hn : 0 ≤ n) : ∀ i : Nat, 0 ≤ sp t n i ∧ sp t n i ≤ n := by
  intro i
  induction i with
  | zero => have := ru_in (p := isSp t) hn; exact ⟨by simp only [sp]; omega, by simp only [sp]; omega⟩
  | succ i ih =>
    have a := sgE_in (t := t) ih.2
    have := ru_in (p := isSp t) (n := n) (k := sgE t n (sp t n i)) a.2.1
    simp only [sp]
    omega
theorem en_in {t : Int → Int} {n : Int} (hn : 0 ≤ n) (i : Nat) : sp t n i ≤ en t n i ∧ en t n i ≤ n ∧ (kd t n i ≠ 0 → sp t n i < en t n i) := sgE_in (sp_in hn i).2
theorem sp_up {t : Int → Int} {n : Int} (hn : 0 ≤ n) (i : Nat) : en t n i ≤ sp t n (i + 1) := (ru_in (p := isSp t) (n := n) (k := sgE t n (sp t n i)) (en_in hn i).2.1).1
theorem sp_lt {t : Int → Int} {n : Int} (hn : 0 ≤ n) {i : Nat} (h : kd t n i ≠ 0) : sp t n i < sp t n (i + 1) := by
  have a := (en_in (t := t) hn i).2.2 h
  have := sp_up (t := t) hn i
  omega
theorem sp_mono {t : Int → Int} {n : Int} (hn : 0 ≤ n) {i j : Nat} (h : i ≤ j) : sp t n i ≤ sp t n j := by
  induction h with
  | refl => exact Int.le_refl _
  | step _ ih =>
    rename_i k _
    have a := (en_in (t := t) hn k).1
    have b := sp_up (t := t) hn k
    show sp t n i ≤ sp t n (k + 1)
    omega
/-- the byte of a sign; -1000: it is none -/
def sg (t : Int → Int) (n : Int) (i : Nat) : Int := if kd t n i = 3 then t (sp t n i) else -1000
/-- a number's value -/
def nu (t : Int → Int) (n : Int) (i : Nat) : Int := nuV t (sp t n i) (en t n i)
theorem woV_ex (t : Int → Int) (a e : Int) : ∃ r, woV t a e r := by
  by_cases h : ∃ k, (0 ≤ k ∧ k < 55) ∧ Mt t a e (-(10 + 2 * k))
  · obtain ⟨k, hk, m⟩ := h
    exact ⟨k, Or.inr ⟨hk, m⟩⟩
  · exact ⟨-1, Or.inl ⟨rfl, fun k k0 k1 m => h ⟨k, ⟨k0, k1⟩, m⟩⟩⟩
theorem woV.uni {t : Int → Int} {a e r s : Int} (h : woV t a e r) (h' : woV t a e s) : r = s := by
  rcases h with ⟨e1, h⟩ | ⟨e1, h⟩
  · rcases h' with ⟨e2, h'⟩ | ⟨e2, h'⟩
    · omega
    · exact absurd h' (h s e2.1 e2.2)
  · rcases h' with ⟨e2, h'⟩ | ⟨e2, h'⟩
    · exact absurd h (h' r e1.1 e1.2)
    · exact h.uni h' e1 e2
/-- which word a sign is; -1: none of them, or no word -/
noncomputable def wd (t : Int → Int) (n : Int) (i : Nat) : Int := if kd t n i = 1 then Classical.choose (woV_ex t (sp t n i) (en t n i)) else -1
theorem wd_of {t : Int → Int} {n : Int} {i : Nat} (h : kd t n i = 1) : woV t (sp t n i) (en t n i) (wd t n i) := by
  unfold wd
  rw [if_pos h]
  exact Classical.choose_spec (woV_ex t (sp t n i) (en t n i))
theorem wd_iff {t : Int → Int} {n : Int} {i : Nat} {w : Int} (hw : 0 ≤ w ∧ w < 55) : wd t n i = w ↔ kd t n i = 1 ∧ Mt t (sp t n i) (en t n i) (-(10 + 2 * w)) := by
  by_cases h : kd t n i = 1
  · have a := wd_of h
    constructor
    · intro e
      rw [e] at a
      rcases a with ⟨e1, _⟩ | ⟨_, m⟩
      · omega
      · exact ⟨h, m⟩
    · intro m
      exact a.uni (Or.inr ⟨hw, m.2⟩)
  · constructor
    · intro e
      unfold wd at e
      rw [if_neg h] at e
      omega
    · intro m
      exact absurd m.1 h
theorem wd_in {t : Int → Int} {n : Int} {i : Nat} : -1 ≤ wd t n i ∧ wd t n i < 55 := by
  by_cases h : kd t n i = 1
  · rcases wd_of h with ⟨e, _⟩ | ⟨e, _⟩ <;> omega
  · unfold wd
    rw [if_neg h]
    omega
/-- X's sign at hand is sign i of the text t -/
def LX (t : Int → Int) (n : Int) (a : Dt) (i : Nat) : Prop := a 2 = t ∧ a 10 4 = n ∧ (0 ≤ n ∧ n ≤ 4000) ∧ Wo a ∧ (a 10 5 = sp t n i ∧ a 10 6 = en t n i ∧ a 10 7 = kd t n i) ∧ (kd t n i = 1 → a 10 8 = wd t n i) ∧ (kd t n i = 2 → a 10 8 = nu t n i) ∧ (kd t n i = 3 → a 10 8 = sg t n i)
/-- but for the reader's own numbers -/
def FX (a x : Dt) : Prop := ∀ p q, ¬ (p = 10 ∧ 5 ≤ q ∧ q ≤ 9) → p ≠ 11 → x p q = a p q
def FM (b y : Dt) : Prop := ∀ p q, ¬ (p = 1545 ∧ 29 ≤ q ∧ q ≤ 35) → y p q = b p q
theorem FX.refl {a : Dt} : FX a a := fun _ _ _ _ => rfl
theorem FM.refl {a : Dt} : FM a a := fun _ _ _ => rfl
theorem FX.trans {a x z : Dt} (h : FX a x) (h' : FX x z) : FX a z := fun p q u v => (h' p q u v).trans (h p q u v)
theorem FM.trans {a x z : Dt} (h : FM a x) (h' : FM x z) : FM a z := fun p q u => (h' p q u).trans (h p q u)
theorem LX.take {t : Int → Int} {n : Int} {a : Dt} {i : Nat} (h : LX t n a i) : wp (fX2_take a) (fun x => LX t n x (i + 1) ∧ FX a x ∧ x 10 9 = a 10 9) := by
  obtain ⟨h1, h2, h3, h4, ⟨h5, h6, h7⟩, -⟩ := h
  have e := en_in (t := t) h3.1 i
  have s := sp_in (t := t) h3.1 i
  have k := take_X h4 (by rw [h6, h2]; omega)
  rw [h1, h2, h6] at k
  refine k.mono fun x hx => ?_
  obtain ⟨x1, x2, x3, x4, x5, x6, x7⟩ := hx
  rw [h1, h2] at x3 x4 x5 x6 x7
  have es : ru (isSp t) n (en t n i) = sp t n (i + 1) := rfl
  rw [es] at x2 x3 x4 x5 x6 x7
  refine ⟨⟨?_, ?_, h3, fun k k0 k1 => ?_, ⟨x2, x3, x4⟩, fun z => ?_, x6, fun z => ?_⟩, fun p q u v => x1 p q (by omega), x1 10 9 (by omega)⟩
  · rw [← h1]; exact funext fun k => x1 2 k (by omega)
  · rw [x1 10 4 (by omega)]; exact h2
  · rw [x1 14 k (by omega)]; exact h4 k k0 k1
  · exact (x5 z).uni (wd_of z)
  · rw [x7 z]
    unfold sg
    rw [if_pos z]
theorem LX.isWd {t : Int → Int} {n : Int} {a : Dt} {i : Nat} (h : LX t n a i) {w : Int} (hw : 0 ≤ w) : fX2_isWordHere a w = if wd t n i = w then 1 else 0 := by
  obtain ⟨-, -, -, -, ⟨h5, h6, h7⟩, h8, -⟩ := h
  unfold fX2_isWordHere
  rw [h7]
  by_cases k : kd t n i = 1
  · rw [if_pos k, h8 k]
  · rw [if_neg k]
    unfold wd
    rw [if_neg k, if_neg (by omega)]
theorem LX.isSg {t : Int → Int} {n : Int} {a : Dt} {i : Nat} (h : LX t n a i) {c : Int} (hc : 0 ≤ c) : fX2_isSign a c = if sg t n i = c then 1 else 0 := by
  obtain ⟨-, -, -, -, ⟨h5, h6, h7⟩, -, -, h8⟩ := h
  unfold fX2_isSign
  rw [h7]
  by_cases k : kd t n i = 3
  · rw [if_pos k, h8 k]
  · rw [if_neg k]
    unfold sg
    rw [if_neg k, if_neg (by omega)]
/-! M's rows of signs -/
def isG (c : Int) : Prop := c = 40 ∨ c = 41 ∨ c = 44 ∨ c = 59 ∨ c = 43 ∨ c = 45 ∨ c = 47
/-- M's sort of a sign -/
noncomputable def ms (t : Int → Int) (n : Int) (i : Nat) : Int := if kd t n i = 3 then @ite _ (isG (sg t n i)) (Classical.propDecidable _) (sg t n i) 3 else kd t n i
/-- row j of M's signs is sign j -/
def MR (t : Int → Int) (n : Int) (b : Dt) (j : Nat) : Prop := b 1566 j = sp t n j ∧ b 1567 j = (if kd t n j = 0 then sp t n j + 1 else en t n j) ∧ b 1565 j = ms t n j ∧ (kd t n j = 2 → b 1568 j = nu t n j)
/-- all rows are there up to the last, which is the end or odd -/
def MS (t : Int → Int) (n : Int) (N : Nat) (b : Dt) : Prop := (∀ k, 0 ≤ k → k < n → b 1546 k = t k) ∧ b 1545 28 = n ∧ (0 ≤ n ∧ n ≤ 4000) ∧ (∀ j, j ≤ N → MR t n b j) ∧ (∀ j, j < N → ms t n j ≠ 0 ∧ ms t n j ≠ 3) ∧ (ms t n N = 0 ∨ ms t n N = 3) ∧ N < 4002
def LM (t : Int → Int) (n : Int) (N : Nat) (b : Dt) (i : Nat) : Prop := MS t n N b ∧ b 1545 29 = i ∧ i ≤ N
theorem MS.cg {t : Int → Int} {n : Int} {N : Nat} {b y : Dt} (h : MS t n N b) (hf : FM b y) : MS t n N y := by
  obtain ⟨h1, h2, h3, h4, h5⟩ := h
  refine ⟨fun k k0 k1 => by rw [hf _ _ (by omega)]; exact h1 k k0 k1, by rw [hf _ _ (by omega)]; exact h2, h3, fun j hj => ?_, h5⟩
  obtain ⟨r1, r2, r3, r4⟩ := h4 j hj
  exact ⟨by rw [hf _ _ (by omega)]; exact r1, by rw [hf _ _ (by omega)]; exact r2, by rw [hf _ _ (by omega)]; exact r3, fun z => by rw [hf _ _ (by omega)]; exact r4 z⟩
theorem ms_g {t : Int → Int} {n : Int} {i : Nat} {c : Int} (hc : isG c) : ms t n i = c ↔ sg t n i = c := by
  unfold ms sg
  by_cases k : kd t n i = 3
  · rw [if_pos k, if_pos k]
    by_cases g : isG (t (sp t n i))
    · rw [if_pos g]
    · rw [if_neg g]
      constructor
      · intro e; unfold isG at hc; omega
      · intro e; rw [e] at g; exact absurd hc g
  · rw [if_neg k, if_neg k]
    have := sgK_in (t := t) (n := n) (a := sp t n i)
    unfold isG at hc
    unfold kd at k ⊢
    omega
theorem ms_k {t : Int → Int} {n : Int} {i : Nat} : (ms t n i = 0 ↔ kd t n i = 0) ∧ (ms t n i = 1 ↔ kd t n i = 1) ∧ (ms t n i = 2 ↔ kd t n i = 2) := by
  unfold ms
  by_cases k : kd t n i = 3
  · rw [if_pos k]
    by_cases g : isG (sg t n i)
    · rw [if_pos g]; unfold isG at g; omega
    · rw [if_neg g]; omega
  · rw [if_neg k]; exact ⟨Iff.rfl, Iff.rfl, Iff.rfl⟩
theorem LM.isSg {t : Int → Int} {n : Int} {N : Nat} {b : Dt} {i : Nat} (h : LM t n N b i) {c : Int} (hc : isG c) : fX11_isSign b c = some (if sg t n i = c then 1 else 0) := by
  obtain ⟨⟨h1, h2, h3, h4, h5, h6, h7⟩, h8, h9⟩ := h
  unfold fX11_isSign lv
  dsimp only
  rw [h8, ck_pos (by omega), (h4 i h9).2.2.1]
  by_cases e : sg t n i = c
  · rw [if_pos ((ms_g hc).mpr e), if_pos e]
  · rw [if_neg (fun z => e ((ms_g hc).mp z)), if_neg e]
theorem Mt.cg {t t' : Int → Int} {a e s : Int} (ha : 0 ≤ a) (h : ∀ k, a ≤ k → k < e → t' k = t k) : Mt t' a e s ↔ Mt t a e s := by
  unfold Mt
  constructor
  · rintro ⟨p, q⟩
    exact ⟨p, fun k k0 k1 => by rw [← h _ (by omega) (by omega)]; exact q k k0 k1⟩
  · rintro ⟨p, q⟩
    exact ⟨p, fun k k0 k1 => by rw [h _ (by omega) (by omega)]; exact q k k0 k1⟩
theorem LM.isWd {t : Int → Int} {n : Int} {N : Nat} {b : Dt} {i : Nat} (h : LM t n N b i) {w : Int} (hw : 0 ≤ w ∧ w < 55) {s : Int} (hs : s = -(10 + 2 * w)) : fX11_isWord b s = some (if wd t n i = w then 1 else 0) := by
  obtain ⟨⟨h1, h2, h3, h4, h5, h6, h7⟩, h8, h9⟩ := h
  obtain ⟨r1, r2, r3, r4⟩ := h4 i h9
  have e := en_in (t := t) h3.1 i
  have p := sp_in (t := t) h3.1 i
  have k := isWord_M (d := b) (s := s) (by rw [h8]; omega) (fun z => by
    rw [h8] at z ⊢
    rw [r3, ms_k.2.1] at z
    rw [r1, r2, if_neg (by omega)]
    omega)
  rw [h8, r1, r3] at k
  obtain ⟨r, er, hr⟩ := k
  rw [er]
  congr 1
  have q : (ms t n i = 1 ∧ Mt (b 1546) (sp t n i) (b 1567 i) s) ↔ wd t n i = w := by
    rw [wd_iff hw, ms_k.2.1]
    constructor
    · rintro ⟨a, m⟩
      rw [r2, if_neg (by omega)] at m
      refine ⟨a, ?_⟩
      rw [hs] at m
      exact (Mt.cg p.1 (fun k k0 k1 => h1 k (by omega) (by omega))).mp m
    · rintro ⟨a, m⟩
      rw [r2, if_neg (by omega), hs]
      exact ⟨a, (Mt.cg p.1 (fun k k0 k1 => h1 k (by omega) (by omega))).mpr m⟩
  rcases hr with ⟨z, m⟩ | ⟨z, m⟩
  · rw [if_pos (q.mp m), z]
  · rw [if_neg (fun y => m (q.mpr y)), z]
