/-! LEVEL 3: a condition is read, whole -/
set_option maxRecDepth 100000
set_option maxHeartbeats 4000000
noncomputable def kt {σ ρ : Type} (f : σ → Option (σ ⊕ ρ)) (r : Option (σ ⊕ ρ)) : Option ρ := match r with | none => none | some (.inl s) => loop f s | some (.inr z) => some z
theorem loop_kt {σ ρ : Type} {f : σ → Option (σ ⊕ ρ)} {s : σ} : loop f s = kt f (f s) := loop_e
def SemF (_ : List (Nat × Nat)) (V : List Bool) (Lv : List Lvl) : Prop := ∃ x y c e, Lv = [(x, y, c, e)] ∧ V = [(x || y)]
theorem SemC.jn {lo hi : Int} {τ : Int → Bool} {s : Nat} (hs : s ≤ 3) {D : List (Nat × Nat)} {V : List Bool} {x y c e : Bool} {L' : List Lvl} (h : SemC ((0, s) :: D) V ((x, y, c, e) :: L')) : ∃ W, jn lo hi τ s (some V) = some ((x || y) :: W) ∧ c = false ∧ e = par D ∧ Sem D W L' := by
  have cs : s = 0 ∨ s = 1 ∨ s = 2 ∨ s = 3 := by omega
  rcases cs with rfl | rfl | rfl | rfl
  · obtain ⟨W, h1, h2, h3, h4, h5⟩ := h.val
    exact ⟨W, by show some V = _; rw [h1, h2, Bool.false_or], h3, h4, h5⟩
  · obtain ⟨V', e', g⟩ := h.pand (lo := lo) (hi := hi) (τ := τ) (Or.inl rfl)
    obtain ⟨W, h1, h2, h3, h4, h5⟩ := g.val
    exact ⟨W, by show sX lo hi τ 4000 (some V) = _; rw [e', h1, h2, Bool.false_or], h3, h4, h5⟩
  · obtain ⟨V', e', g⟩ := h.por (lo := lo) (hi := hi) (τ := τ)
    obtain ⟨W, h1, h2, h3, h4, h5⟩ := g.val
    exact ⟨W, by show sX lo hi τ 4001 (some V) = _; rw [e', h1], h3, h4, h5⟩
  · obtain ⟨V1, e1, g1⟩ := h.pand (lo := lo) (hi := hi) (τ := τ) (Or.inr rfl)
    obtain ⟨V', e', g⟩ := g1.por (lo := lo) (hi := hi) (τ := τ)
    obtain ⟨W, h1, h2, h3, h4, h5⟩ := g.val
    exact ⟨W, by show sX lo hi τ 4001 (sX lo hi τ 4000 (some V)) = _; rw [e1, e', h1], h3, h4, h5⟩
theorem SemC.lv {D : List (Nat × Nat)} {V : List Bool} {Lv : List Lvl} (h : SemC D V Lv) : ∃ x y c e l, Lv = (x, y, c, e) :: l := by
  obtain ⟨s, D', rfl, z, W, x, y, L', rfl, rfl, h⟩ := h
  exact ⟨_, _, _, _, _, rfl⟩
section CND
variable {t : Int → Int} {n : Int} {N : Nat} {a b : Dt} {L c W f A : Int} {i0 : Nat} {S S' : List (Nat × Nat) → List Bool → List Lvl → Prop} {x y : Dt} {j : Nat} {D : List (Nat × Nat)}
theorem CJ.turns {k s : Nat} (h : CJ t n N a b L c W f A i0 SemT x y j ((k, s) :: D)) (hL : 15 ≤ L) (hc : L + 2 ≤ c ∧ c ≤ L + 4) : wp (fX2_turns x c) (fun x' => CJ t n N a b L c W f A i0 SemC x' y j ((0, s) :: D)) := by
  have hj := h.jN
  obtain ⟨w, z, E, hX, hb, -⟩ := h.2.1
  refine (turns_X (by omega) k hX (by omega)).mono fun x' hx' => ?_
  have hX2 := hx'.2
  have e : (par ((k, s) :: D) != odd k) = par ((0, s) :: D) := by
    simp only [par]
    rw [show odd 0 = false from rfl]
    cases odd k <;> cases par D <;> rfl
  rw [e] at hX2
  refine h.still hL hc hx'.1 hX2 (by omega) (fun q hq => ?_) (by simp) (fun E' w' z' hX' τ V0 Lv eV hS => ?_)
  · have := h.2.2.2.2.2.2.1
    rcases List.mem_cons.mp hq with r | r
    · rw [r]; exact this (k, s) (List.mem_cons_self ..)
    · exact this q (List.mem_cons_of_mem _ r)
  · have eE : E' τ = E τ := by
      rw [← hX.2.2.1 τ, ← hX'.2.2.1 τ, show z' = z by rw [← hX.1.2.1, ← hX'.1.2.1]]
    rw [eE] at eV
    obtain ⟨v, V, x1, y1, c1, e1, l, h1, h2, rfl⟩ := hS
    rw [h1] at eV
    refine ⟨(v != odd k) :: V, ?_, h2.opd⟩
    rw [eV, tn_v]
/-- the signs that wait at a level are done -/
theorem CJ.joins {s : Nat} (h : CJ t n N a b L c W f A i0 SemC x y j ((0, s) :: D)) (hc : L + 2 ≤ c ∧ c ≤ L + 4) (hL : 15 ≤ L) : wp (fX2_joins x c) (fun x' => FQ c x x' ∧ ∃ w z E, w + z + 1 ≤ (j : Int) ∧ XC c x' (fl0 D) E w z (par ((0, s) :: D)) ∧ ∀ E0 w0 z0, XC c x (flat ((0, s) :: D)) E0 w0 z0 (par ((0, s) :: D)) → ∀ τ, E τ = jn (x c 2) (x 10 13) τ s (E0 τ)) := by
  have hj := h.jN
  obtain ⟨w, z, E, hX, hb, -⟩ := h.2.1
  have hs : s ≤ 3 := h.2.2.2.2.2.2.1 (0, s) (List.mem_cons_self ..)
  refine (joins_X (by omega) hs hX (by omega)).mono fun x' hx' => ?_
  obtain ⟨f1, w', z', e1, X'⟩ := hx'
  refine ⟨f1, w', z', _, by omega, X', fun E0 w0 z0 hX0 τ => ?_⟩
  have eE : E0 τ = E τ := by
    rw [← hX.2.2.1 τ, ← hX0.2.2.1 τ, show z0 = z by rw [← hX.1.2.1, ← hX0.1.2.1]]
  rw [eE]
theorem CJ.mem {S} (h : CJ t n N a b L c W f A i0 S x y j D) : ∀ q ∈ D, q.2 ≤ 3 := h.2.2.2.2.2.2.1
/-- X's run from within an operand on -/
noncomputable def XR (c : Int) (x : Dt) (nn o : Int) : Option (Dt × Option Int) := kt (fX2_condition_22f c) (bx (fX2_operand_2 x c o nn) (fun d12 => some (.inr (d12, none))) fun d12 x14 => lv (w32 (o + x14)) fun x16 => fX2_condition_35 d12 c x16)
theorem XR_go {x x' : Dt} {nn nn' o : Int} (h : fX2_operand_2f c o (x, nn) = some (.inl (x', nn'))) : XR c x nn o = XR c x' nn' o := by
  unfold XR
  have : fX2_operand_2 x c o nn = fX2_operand_2 x' c o nn' := by
    unfold fX2_operand_2
    rw [loop_kt, h]
    rfl
  rw [this]
/-- NOT, ( : X's turn -/
theorem op_not (h : CJ t n N a b L c W f A i0 Sem x y j D) (hL : 15 ≤ L) (hc : L + 2 ≤ c ∧ c ≤ L + 4) {k s : Nat} {D0 : List (Nat × Nat)} (hD : D = (k, s) :: D0) (hw : wd t n j = 16) {nn o : Int} (hn : 0 ≤ nn ∧ 0 ≤ o ∧ o + nn ≤ 5000) : wp (fX2_operand_2f c o (x, nn)) (fun r => ∃ x', r = .inl (x', nn) ∧ CJ t n N a b L c W f A i0 Sem x' (nxb (aS y W (-1))) (j + 1) ((k + 1, s) :: D0)) := by
  have hR := h.1.1
  have hj := h.jN
  obtain ⟨w, z, E, hX, hb, -⟩ := h.2.1
  have hk : x 10 7 = 1 := by rw [hR.1.2.2.2.2.1.2.2]; exact wd_kd (by decide) hw
  have hz := hX.1
  have hlt := hR.lt_w (by decide) hw
  have hNN := hR.2.1.1.2.2.2.2.2.2
  unfold fX2_operand_2f fX2_operand_20 fX2_operand_33
  dsimp only
  rw [hR.1.isWd (w := 16) (by decide), if_pos hw, one_if, if_pos hk]
  have e16 : bXor (x 10 16) 1 = if (par D != true) = true then 1 else 0 := by
    rw [hX.2.2.2]
    exact bx01 (b := true)
  rw [e16, lv_e, ck_pos (by cases (par D != true) <;> simp), sd_e, if_neg (by decide)]
  unfold fX2_operand_57 fX2_operand_78 fX2_operand_98
  rw [Int.add_zero, w32_o (by omega), lv_e, if_neg (by decide), note_X, nt_1, bd_s, if_neg (by decide), wp_bd]
  have hX1 : XC c (st x 10 16 (if (par D != true) = true then 1 else 0)) (flat D) E w z (par D != true) := by
    obtain ⟨⟨h1, h2, h3, h4⟩, h5, h6, h7⟩ := hX
    refine ⟨⟨by rw [st_nk (by decide)]; exact h1, by rw [st_na (by omega)]; exact h2, h3, h4⟩, ?_, fun τ => ?_, st_eq _ _ _ _⟩
    · rw [← h5]; exact rdS_cg fun k _ _ => st_na (by decide)
    · rw [← h6, st_na (by omega), st_nk (by decide)]; exact ev_cg fun k _ _ => st_na (by omega)
  refine (push_X (by omega) hX1 (by omega)).mono fun x2 hx2 => ?_
  have hX2 := hx2.2
  have hf : FQ c x x2 := fun p q u1 u2 u3 u4 => by
    rw [hx2.1 p q u1 u2 u3 u4]
    unfold st
    rw [if_neg (by omega)]
  rw [hD, ← flat_S, show (par ((k, s) :: D0) != true) = par ((k + 1, s) :: D0) by rw [par_S]; cases par ((k, s) :: D0) <;> rfl] at hX2
  rw [wp_bd]
  refine (h.step hL hc (hR.lt_w (by decide) hw) hf hX2 (by omega) (fun q hq => ?_) (fun _ hl => ?_) (fun E' w' z' hX' τ V Lv g _ eV hS => ?_) (S' := Sem) (v := -1)).mono fun x3 hx3 => wp_some.mpr ⟨x3, rfl, hx3⟩
  · rw [hD] at h
    rcases List.mem_cons.mp hq with r | r
    · rw [r]; exact h.mem (k, s) (List.mem_cons_self ..)
    · exact h.mem q (List.mem_cons_of_mem _ r)
  · rw [hD] at hl
    exact hl
  · have eE : E' τ = E τ := by
      rw [← hX.2.2.1 τ, ← hX'.2.2.1 τ, show z' = z by rw [← hX.1.2.1, ← hX'.1.2.1]]
    rw [eE] at eV
    rw [hD] at hS
    obtain ⟨Lv', r1, r2⟩ := hS.not (lo := f) (hi := x 10 13) (τ := τ) (f := g)
    exact ⟨V, Lv', eV, r1, r2⟩
theorem op_opn (h : CJ t n N a b L c W f A i0 Sem x y j D) (hL : 15 ≤ L) (hc : L + 2 ≤ c ∧ c ≤ L + 4) {k s : Nat} {D0 : List (Nat × Nat)} (hD : D = (k, s) :: D0) (hw : sg t n j = 40) {nn o : Int} (hn : 0 ≤ nn ∧ 0 ≤ o) (hl : (D.length : Int) = o + nn + 1) : wp (fX2_operand_2f c o (x, nn)) (fun r => ∃ x', r = .inl (x', nn + 1) ∧ CJ t n N a b L c W f A i0 Sem x' (nxb (aS (if 30 < o + (nn + 1) then bl y (sp t n j) else y) W (-2))) (j + 1) ((0, 0) :: D)) := by
  have hR := h.1.1
  have hr := hR.sp
  have hj := h.jN
  have k3 : kd t n j = 3 := by
    by_cases q : kd t n j = 3
    · exact q
    · unfold sg at hw; rw [if_neg q] at hw; omega
  have hk : x 10 7 = 3 := by rw [hR.1.2.2.2.2.1.2.2]; exact k3
  have hw16 : ¬ wd t n j = 16 := fun q => by
    have := wd_kd (by decide) q
    omega
  have hlen : D.length ≤ 4001 := by
    obtain ⟨w, z, E, hX, hb, -⟩ := h.2.1
    have l1 := hX.len
    have hz := hX.1
    have : ∀ D : List (Nat × Nat), D.length ≤ (flat D).length + 1 := by
      intro D
      induction D with
      | nil => simp
      | cons q D ih =>
        obtain ⟨k, s⟩ := q
        cases D with
        | nil => simp
        | cons q2 D => simp only [flat_cons, List.length_append, List.length_cons] at ih ⊢; omega
    have := this D
    omega
  unfold fX2_operand_2f fX2_operand_20 fX2_operand_33
  dsimp only
  rw [hR.1.isWd (w := 16) (by decide), if_neg hw16, zer_if, hR.1.isSg (c := 40) (by decide), if_pos hw, one_if, if_neg (by omega)]
  have key : ∀ (x y : Dt), CJ t n N a b L c W f A i0 Sem x y j D → (x 10 9 = -1 → D.length ≤ 30) → wp (bd (fX2_push x (-1)) fun d12 => bd (fX2_take d12) fun d14 => some (Sum.inl (d14, nn + 1)) : Option ((Dt × Int) ⊕ (Dt × Option Int))) (fun r => ∃ x', r = .inl (x', nn + 1) ∧ CJ t n N a b L c W f A i0 Sem x' (nxb (aS y W (-2))) (j + 1) ((0, 0) :: D)) := fun x y h h30 => by
    obtain ⟨w, z, E, hX, hb, -⟩ := h.2.1
    have hz := hX.1
    have hlt := h.1.1.lt_g g40 hw
    have hNN := h.1.1.2.1.1.2.2.2.2.2.2
    rw [wp_bd]
    refine (push_X (by omega) hX (by omega)).mono fun x2 hx2 => ?_
    have hX2 := hx2.2
    have e : (-1 : Int) :: flat D = flat ((0, 0) :: D) := by rw [hD]; rfl
    have e2 : par D = par ((0, 0) :: D) := by
      simp only [par]
      rw [show odd 0 = false from rfl]
      cases par D <;> rfl
    rw [e, e2] at hX2
    rw [wp_bd]
    refine (h.step hL hc (h.1.1.lt_g g40 hw) hx2.1 hX2 (by omega) (fun q hq => ?_) (fun z _ => by have := h30 z; simp only [List.length_cons]; omega) (fun E' w' z' hX' τ V Lv g hl31 eV hS => ?_) (S' := Sem) (v := -2)).mono fun x3 hx3 => wp_some.mpr ⟨x3, rfl, hx3⟩
    · rcases List.mem_cons.mp hq with r | r
      · rw [r]; decide
      · exact h.mem q r
    · have eE : E' τ = E τ := by
        rw [← hX.2.2.1 τ, ← hX'.2.2.1 τ, show z' = z by rw [← hX.1.2.1, ← hX'.1.2.1]]
      rw [eE] at eV
      rw [hD] at hS hl31
      simp only [List.length_cons] at hl31
      obtain ⟨Lv', r1, r2⟩ := hS.opn (lo := f) (hi := x 10 13) (τ := τ) (f := g) (by omega)
      rw [hD]
      exact ⟨V, Lv', eV, r1, r2⟩
  obtain ⟨w, z, E, hX, hb, -⟩ := h.2.1
  have e16 : bXor (x 10 16) 0 = x 10 16 := by
    rw [hX.2.2.2]
    cases par D <;> decide
  rw [e16, lv_e, ck_pos (by rw [hX.2.2.2]; cases par D <;> simp), sd_e, st_self rfl, zer_if]
  unfold fX2_operand_57 fX2_operand_78 fX2_operand_98
  rw [w32_o (v := nn + 1) (by omega), lv_e, zer_if, w32_o (by omega)]
  by_cases q : 30 < o + (nn + 1)
  · rw [if_pos q, if_pos q, note_X, bd_s, zer_if, hr.1]
    have nb := h.nb hL hc hr.2.1
    exact key _ _ nb.1 (fun z => absurd z nb.2)
  · rw [if_neg q, if_neg q, note_X, nt_1, bd_s, zer_if]
    exact key _ _ h (fun _ => by omega)
end CND
