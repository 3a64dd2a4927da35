/-! LEVEL 3: a condition is read: both loops -/
set_option maxRecDepth 100000
set_option maxHeartbeats 4000000
theorem kt_up {σ ρ : Type} {f : σ → Option (σ ⊕ ρ)} {R : Option ρ} : kt f (up R) = R := by
  cases R with
  | none => rfl
  | some r => rfl
theorem kt_in {σ ρ : Type} {f : σ → Option (σ ⊕ ρ)} {s : σ} : kt f (some (.inl s)) = loop f s := rfl
theorem kt_out {σ ρ : Type} {f : σ → Option (σ ⊕ ρ)} {z : ρ} : kt f (some (.inr z)) = some z := rfl
section CND3
variable {t : Int → Int} {n : Int} {N : Nat} {a b : Dt} {L c W f A : Int} {i0 : Nat} {x y : Dt} {j : Nat} {D : List (Nat × Nat)}
theorem isTest_X (h : LX t n x j) : fX2_isTest x = if wd t n j = 17 ∨ wd t n j = 18 ∨ wd t n j = 9 ∨ wd t n j = 19 then 1 else 0 := by
  obtain ⟨-, -, -, -, ⟨h5, h6, h7⟩, h8, -⟩ := h
  unfold fX2_isTest
  rw [h7]
  by_cases k : kd t n j = 1
  · rw [if_pos k, h8 k, within_if]
    by_cases q : 17 ≤ wd t n j ∧ wd t n j ≤ 19
    · rw [if_pos q, if_neg (by decide), if_pos (by omega)]
    · rw [if_neg q, if_pos rfl]
      by_cases r : wd t n j = 9
      · rw [if_pos r, if_pos (by omega)]
      · rw [if_neg r, if_neg (by omega)]
  · rw [if_neg k, if_neg]
    intro q
    unfold wd at q
    rw [if_neg k] at q
    omega
/-- the whole condition is there -/
def CQ (t : Int → Int) (n : Int) (N : Nat) (a b : Dt) (L c W f A : Int) (i0 : Nat) (_ : Int) (x' y' : Dt) : Prop := ∃ j', CJ t n N a b L c W f A i0 SemF x' y' j' [(0, 0)]
theorem cond_close {s k' s' : Nat} {D2 : List (Nat × Nat)} (h : CJ t n N a b L c W f A i0 SemC x y j ((0, s) :: (k', s') :: D2)) (hL : 15 ≤ L) (hc : L + 2 ≤ c ∧ c ≤ L + 4) {op : Int} (hop : 0 < op ∧ op ≤ 4001) (hs : sg t n j = 41) : wp (fX2_condition_35f c (x, op)) (fun r => ∃ x', r = .inl (x', op - 1) ∧ CJ t n N a b L c W f A i0 SemC x' (nxb (aS y W (-3))) (j + 1) ((0, s') :: D2)) := by
  have hR := h.1.1
  have hjN := h.jN
  have hs3 : s ≤ 3 := h.mem (0, s) (List.mem_cons_self ..)
  unfold fX2_condition_35f
  dsimp only
  rw [if_neg (by omega), hR.1.isSg (c := 41) (by decide), if_pos hs, one_if, wp_bd]
  refine (h.joins hc hL).mono fun x1 hx1 => ?_
  obtain ⟨f1, w, z, E, hb, hX, hE⟩ := hx1
  rw [fl0_flat] at hX
  have hw := hX.1
  have dr := drop_X (by omega) hX (by omega)
  rw [sd_e, lv_e, w32_o (v := op + -1) (by omega), wp_bd]
  have e2 : par ((0, s) :: (k', s') :: D2) = par ((k', s') :: D2) := by
    show (odd 0 != par ((k', s') :: D2)) = _
    rw [show odd 0 = false from rfl]
    cases par ((k', s') :: D2) <;> rfl
  have dX := dr.2
  rw [e2] at dX
  refine (h.step hL hc (hR.lt_g g41 hs) (f1.trans dr.1) dX (by omega) (fun q hq => h.mem q (List.mem_cons_of_mem _ hq)) (fun _ hl => ?_) (fun E' w' z' hX' τ V0 Lv g _ eV hS => ?_) (S' := SemT) (v := -3)).mono fun x2 hx2 => ?_
  · simp only [List.length_cons] at hl ⊢
    omega
  · obtain ⟨xx, yy, cc, ee, l, rfl⟩ := hS.lv
    obtain ⟨V, h1, h2, h3, h4⟩ := hS.jn (lo := x c 2) (hi := x 10 13) (τ := τ) hs3
    rw [hE E' w' z' hX' τ, eV, h1]
    have h4' := h4
    obtain ⟨x5, y5, W5, L5, rfl, h6, h7⟩ := h4
    exact ⟨_, _, rfl, rfl, (xx || yy), V, x5, y5, odd k', par D2, L5, rfl, h4', rfl⟩
  · rw [wp_bd]
    refine (hx2.turns hL hc).mono fun x3 hx3 => wp_some.mpr ⟨x3, ?_, hx3⟩
    rw [show op + -1 = op - 1 by omega]
theorem cond_and {s : Nat} (h : CJ t n N a b L c W f A i0 SemC x y j ((0, s) :: D)) (hL : 15 ≤ L) (hc : L + 2 ≤ c ∧ c ≤ L + 4) (hw : wd t n j = 15) : wp (fX2_sign_2 x c) (fun x' => ∃ s', CJ t n N a b L c W f A i0 Sem x' (nxb (aS y W (-4))) (j + 1) ((0, s') :: D)) := by
  have hR := h.1.1
  have hjN := h.jN
  have hs3 : s ≤ 3 := h.mem (0, s) (List.mem_cons_self ..)
  have hlt := hR.lt_w (by decide) hw
  have hNN := hR.2.1.1.2.2.2.2.2.2
  obtain ⟨w, z, E, hX, hb, -⟩ := h.2.1
  have hv : x 10 8 = 15 := by rw [hR.1.2.2.2.2.2.1 (wd_kd (by decide) hw)]; exact hw
  refine sgn_and (by omega) hs3 hX (by omega) hv fun x1 w1 z1 f1 e1 X1 => ?_
  refine (h.step hL hc hlt f1 X1 (by omega) (fun q hq => ?_) (fun _ hl => hl) (fun E' w' z' hX' τ V Lv g _ eV hS => ?_) (S' := Sem) (v := -4)).mono fun x2 hx2 => ⟨_, hx2⟩
  · rcases List.mem_cons.mp hq with r | r
    · rw [r]; dsimp only; split <;> omega
    · exact h.mem q (List.mem_cons_of_mem _ r)
  · have eE : E' τ = E τ := by
      rw [← hX.2.2.1 τ, ← hX'.2.2.1 τ, show z' = z by rw [← hX.1.2.1, ← hX'.1.2.1]]
    rw [eE] at eV
    rw [eV]
    have hsm : ∀ g, sM f (x 10 13) τ (-4) (some (Lv, g)) = some (Lv, g) := by
      obtain ⟨xx, yy, cc, ee, l, rfl⟩ := hS.lv
      intro g
      rfl
    rw [hsm]
    have cs : s = 0 ∨ s = 1 ∨ s = 2 ∨ s = 3 := by omega
    rcases cs with rfl | rfl | rfl | rfl
    · exact ⟨V, Lv, rfl, rfl, hS.and (Or.inl rfl)⟩
    · obtain ⟨V', e', g1⟩ := hS.pand (lo := x c 2) (hi := x 10 13) (τ := τ) (Or.inl rfl)
      exact ⟨V', Lv, e', rfl, g1.and (Or.inl rfl)⟩
    · exact ⟨V, Lv, rfl, rfl, hS.and (Or.inr rfl)⟩
    · obtain ⟨V', e', g1⟩ := hS.pand (lo := x c 2) (hi := x 10 13) (τ := τ) (Or.inr rfl)
      exact ⟨V', Lv, e', rfl, g1.and (Or.inr rfl)⟩
theorem cond_or {s : Nat} (h : CJ t n N a b L c W f A i0 SemC x y j ((0, s) :: D)) (hL : 15 ≤ L) (hc : L + 2 ≤ c ∧ c ≤ L + 4) (hw : wd t n j = 14) : wp (fX2_sign_2 x c) (fun x' => CJ t n N a b L c W f A i0 Sem x' (nxb (aS y W (-5))) (j + 1) ((0, 2) :: D)) := by
  have hR := h.1.1
  have hjN := h.jN
  have hs3 : s ≤ 3 := h.mem (0, s) (List.mem_cons_self ..)
  have hlt := hR.lt_w (by decide) hw
  have hNN := hR.2.1.1.2.2.2.2.2.2
  obtain ⟨w, z, E, hX, hb, -⟩ := h.2.1
  have hv : x 10 8 ≠ 15 := by rw [hR.1.2.2.2.2.2.1 (wd_kd (by decide) hw), hw]; decide
  refine sgn_or (by omega) hs3 hX (by omega) hv fun x1 w1 z1 f1 e1 X1 => ?_
  refine h.step hL hc hlt f1 X1 (by omega) (fun q hq => ?_) (fun _ hl => hl) (fun E' w' z' hX' τ V0 Lv g _ eV hS => ?_) (S' := Sem) (v := -5)
  · rcases List.mem_cons.mp hq with r | r
    · rw [r]; decide
    · exact h.mem q (List.mem_cons_of_mem _ r)
  · have eE : E' τ = E τ := by
      rw [← hX.2.2.1 τ, ← hX'.2.2.1 τ, show z' = z by rw [← hX.1.2.1, ← hX'.1.2.1]]
    rw [eE] at eV
    obtain ⟨xx, yy, cc, ee, l, rfl⟩ := hS.lv
    obtain ⟨V, h1, rfl, rfl, h4⟩ := hS.jn (lo := x c 2) (hi := x 10 13) (τ := τ) hs3
    rw [eV, h1]
    refine ⟨_, _, rfl, rfl, (xx || yy), true, V, l, rfl, h4, ?_⟩
    rw [if_neg (by decide), if_neg (by decide), if_pos rfl]
    exact ⟨rfl, rfl⟩
/-- the end of a condition -/
theorem cond_end {s : Nat} (h : CJ t n N a b L c W f A i0 SemC x y j [(0, s)]) (hL : 15 ≤ L) (hc : L + 2 ≤ c ∧ c ≤ L + 4) : wp (fX2_joins x c) (fun x' => CJ t n N a b L c W f A i0 SemF x' y j [(0, 0)]) := by
  have hs3 : s ≤ 3 := h.mem (0, s) (List.mem_cons_self ..)
  refine (h.joins hc hL).mono fun x1 hx1 => ?_
  obtain ⟨f1, w, z, E, hb, hX, hE⟩ := hx1
  refine h.still hL hc f1 (D' := [(0, 0)]) hX hb (fun q hq => ?_) (by simp) (fun E' w' z' hX' τ V0 Lv eV hS => ?_)
  · rcases List.mem_cons.mp hq with r | r
    · rw [r]; decide
    · simp at r
  · obtain ⟨xx, yy, cc, ee, l, rfl⟩ := hS.lv
    obtain ⟨V, h1, h2, h3, h4⟩ := hS.jn (lo := x c 2) (hi := x 10 13) (τ := τ) hs3
    obtain ⟨rfl, rfl⟩ := h4
    rw [hE E' w' z' hX' τ, eV, h1]
    exact ⟨_, rfl, xx, yy, cc, ee, rfl, rfl⟩
end CND3
