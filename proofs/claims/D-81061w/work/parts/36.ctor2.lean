/-! LEVEL 1: rows for constructors, second part -/
theorem aln_ob {m : Dt} {o t n : Int} {c : Nat} (h : OB m o c) (ho : o < m 0 0) : OB (aln m t n) o c := ⟨h.1, by rw [aln_old (by omega) (by have := h.1; omega)]; exact h.2⟩
theorem aln_ar {m : Dt} {o t n k : Int} {c : Nat} (h : AR m o c k) (ho : o < m 0 0) : AR (aln m t n) o c k := ⟨h.1, by rw [aln_old (by omega) (by have := h.1; omega)]; exact h.2.1, by rw [aln_old (by omega) (by have := h.1; omega)]; exact h.2.2⟩
theorem aln_nx {m : Dt} {t n a b : Int} (h : m 0 0 = a) (h1 : 1 ≤ a) (hb : a + 1 = b) : aln m t n 0 0 = b := by rw [aln_next (by omega)]; omega
theorem mlt_ob {m : Dt} {o t n t2 n2 : Int} {c : Nat} (h : OB m o c) (ho : o < m 0 0) (hn : 0 ≤ n) : OB (mlt m t n t2 n2) o c := ⟨h.1, by rw [mlt_old (Or.inl ho) hn (by have := h.1; omega)]; exact h.2⟩
theorem mlt_ar {m : Dt} {o t n t2 n2 k : Int} {c : Nat} (h : AR m o c k) (ho : o < m 0 0) (hn : 0 ≤ n) : AR (mlt m t n t2 n2) o c k := ⟨h.1, by rw [mlt_old (Or.inl ho) hn (by have := h.1; omega)]; exact h.2.1, by rw [mlt_old (Or.inl ho) hn (by have := h.1; omega)]; exact h.2.2⟩
theorem mlt_nx {m : Dt} {t n t2 n2 a b : Int} (h : m 0 0 = a) (h1 : 1 ≤ a) (hb : a + n + 1 = b) : mlt m t n t2 n2 0 0 = b := by rw [mlt_next (by omega)]; omega
section CU
variable {w : Wd} {l : Launch} {X : Dt → Dt → Prop} {G : Cx} {Q : State → Prop} {d m m1 : Dt} {kc ks pc nL : Nat} {L S : List MV} {cc : ByteArray} {own : String} {rt : Option FieldType} {rm : Room}
theorem v_nM (h : m1 = m) (k : V w l X G Q d m1 kc ks pc L S) : V w l X G Q d m kc ks pc L S := h ▸ k
theorem v_aastO (F : Fx w G cc own nL rt rm) {a i n x : Int} {t c : Nat} {C : String} {T : u_T} {N : Nat} (hd : decode cc pc = .ok (.aastore, 1)) (ho : AR m a t n) (ht : 100 < t) (hel : k_el t = .object C) (hcl : k_cl[c]? = some (C, T, N)) (hk : (k_tys w)[t - 101]? = some (w.2.2.2.2.1 t, k_el t)) (hO : OB m x c) (hc : c < 20) (hi : 0 ≤ i ∧ i < n)
    (hX : VT w d m → X d m → X (st d a i x) m) (kk : V w l X G Q (st d a i x) m kc ks (pc + 1) L S) : V w l X G Q d m kc ks pc L (mA x :: mI i :: mA a :: S) := by
  intro hv hx hl hs H locs lsR hH hlo hL
  have h0 := hH.cell hv ho ht
  obtain ⟨cell, z1, z2, z3, z4⟩ := (hH.2.2 x hO.1 (hv.lt (by rw [hO.2]; omega))).1 c hO.2 hc
  have hcls := (F.2.2.2.2.2.1.1.1 c _ hcl).2
  have hra := (F.2.2.2.2.2.1.1.2 _ _ hk).2
  simp only [hel] at hra
  obtain ⟨kA, comp, k1, k2, k3, -⟩ := hra
  have hcomp : comp = w.2.2.1 c := Option.some.inj (k3.symm.trans hcls.1)
  subst hcomp
  obtain ⟨kC, hkC, -⟩ := hcls.2
  show W _ _ _ _ _ _ _ _ _ _ _ _ _ _ _ (F0 _ pc lsR (eR w x :: .int (Int32.ofInt i) :: eR w a :: _))
  rw [eR_pos hO.1, eR_pos ho.1]
  have hin := in_ok hs.2.1 hi
  refine W.aast F.1 F.2.1 h0 (fun q h => by cases h) (fun h => by cases h) k1 k2 rfl hkC ⟨fun h => hin (Or.inl h), by rw [arrV_size]; exact Nat.not_le.mp fun h => hin (Or.inr h)⟩ z1 (fun q h => by rw [z3] at h; cases h) (by rw [z2]; exact hkC) (by rw [z2]; exact va_assign hcls) rfl rfl hd fun H' e1 e2 e3 => ?_
  refine kk (hv.sta ho ht (by rw [hel]; trivial)) (hX hv hx) hl hs.2.2.2 H' _ lsR (hH.sta ho ht hi.1 ?_ e2 e3) (fun q hq => ?_) hL
  · rw [i32_cl hs.2.1] at e1
    rw [e1, ho.2.2]
    have e : eT w (k_el t) x = .ref (fA w x) := by rw [hel]; exact eR_pos hO.1
    rw [e]
  · rcases List.mem_append.mp hq with h | h
    · exact hlo q h
    · rw [List.mem_singleton.mp h]
      show w.1.size ≤ fA w a
      rw [fA_pos ho.1]; omega
/-- a text goes into an array of texts -/
theorem v_aastT (F : Fx w G cc own nL rt rm) {a i n x : Int} {t : Nat} (hd : decode cc pc = .ok (.aastore, 1)) (ho : AR m a t n) (ht : t = 115) (hx0 : isSb x = true) (hi : 0 ≤ i ∧ i < n)
    (hX : VT w d m → X d m → X (st d a i x) m) (kk : V w l X G Q (st d a i x) m kc ks (pc + 1) L S) : V w l X G Q d m kc ks pc L (mA x :: mI i :: mA a :: S) := by
  subst ht
  intro hv hx hl hs H locs lsR hH hlo hL
  have h0 := hH.cell hv ho (by omega)
  have hneg := (isS_neg (a := x) hx0).1
  obtain ⟨⟨cell, z1, z2, z3, z4⟩, ⟨cf, kf, fi, f, cell2, y1, y2, y3, y4, y5, y6⟩, -⟩ := F.2.2.2.2.2.1.2.2.1 x hx0
  have hra := (F.2.2.2.2.2.1.1.2 14 (w.2.2.2.2.1 115, .object "java/lang/String") rfl).2
  obtain ⟨kA, comp, k1, k2, k3, -⟩ := hra
  have hcomp : comp = cell.cls := Option.some.inj (k3.symm.trans z3)
  subst hcomp
  obtain ⟨kC, hkC⟩ : ∃ kC, G.2.2.2.1.vm.classes[cell.cls]? = some kC := by
    have hi := F.2.2.2.2.1 _ q302
    cases hh : G.2.2.2.1.vm.classes[cell.cls]? with
    | some q => exact ⟨q, rfl⟩
    | none => simp [Cond.before, Cond.holds, Cond.value, State.names, z3, hh] at hi
  have zz : H[w.2.1 x]? = some cell := hH.old z1
  show W _ _ _ _ _ _ _ _ _ _ _ _ _ _ _ (F0 _ pc lsR (eR w x :: .int (Int32.ofInt i) :: eR w a :: _))
  rw [eR_old hneg, eR_pos ho.1]
  have hin := in_ok hs.2.1 hi
  refine W.aast F.1 F.2.1 h0 (fun q h => by cases h) (fun h => by cases h) k1 k2 rfl hkC ⟨fun h => hin (Or.inl h), by rw [arrV_size]; exact Nat.not_le.mp fun h => hin (Or.inr h)⟩ zz (fun q h => by rw [h] at z2; cases z2) hkC (by unfold Vm.assignable; rw [show (256 : Nat) = 255 + 1 from rfl, Vm.assignableAux]; simp) rfl rfl hd fun H' e1 e2 e3 => ?_
  refine kk (hv.sta ho (by omega) (show cT (k_el 115) x from trivial)) (hX hv hx) hl hs.2.2.2 H' _ lsR (hH.sta ho (by omega) hi.1 ?_ e2 e3) (fun q hq => ?_) hL
  · rw [i32_cl hs.2.1] at e1
    rw [e1, ho.2.2]
    have e : eT w (k_el ((115 : Nat) : Int)) x = .ref (w.2.1 x) := eR_old hneg
    rw [e]
  · rcases List.mem_append.mp hq with h | h
    · exact hlo q h
    · rw [List.mem_singleton.mp h]
      show w.1.size ≤ fA w a
      rw [fA_pos ho.1]; omega
end CU

/-! the third column: what is made -/
section CP
variable {w : Wd} {l : Launch} {X : Dt → Dt → Prop} {G : Cx} {Q : State → Prop} {d m m' : Dt} {kc ks pc nL : Nat} {L S : List MV} {cc : ByteArray} {own : String} {rt : Option FieldType} {rm : Room}
/-- m' is m but for the third column of cells that are there -/
def col3 (m m' : Dt) : Prop := (∀ x j : Int, j ≠ 3 → m' x j = m x j) ∧ ∀ x : Int, ¬ (0 < x ∧ x < m 0 0) → m' x 3 = m x 3
theorem VT.col3 (h : col3 m m') (hv : VT w d m) : VT w d m' := by
  obtain ⟨h1, h2⟩ := h
  obtain ⟨v1, v2, v3, v4, v5, v6⟩ := hv
  have e : ∀ x j : Int, ¬ (0 < x ∧ x < m 0 0) → m' x j = m x j := fun x j hx => by
    by_cases hj : j = 3
    · subst hj; exact h2 x hx
    · exact h1 x j hj
  have e0 := h1 0 0 (by decide)
  refine ⟨by omega, fun a k ha => v2 a k (by omega), fun a j ha => by rw [e a j (by omega)]; exact v3 a j (by omega), ⟨by rw [h1 _ _ (by decide)]; exact v4.1, by rw [h2 0 (by omega)]; exact v4.2⟩, fun a k ha => by rw [e a k (by omega)]; exact v5 a k ha, fun a ha => ?_⟩
  rw [h1 a 1 (by decide), h1 a 2 (by decide)]
  exact v6 a ha
theorem RH.col3 (h : col3 m m') {H : Heap} (hH : RH w d m H) : RH w d m' H := by
  obtain ⟨h1, h2⟩ := h
  obtain ⟨g1, g2, g3⟩ := hH
  have e0 := h1 0 0 (by decide)
  refine ⟨by rw [e0]; exact g1, g2, fun a ha hb => ?_⟩
  obtain ⟨c1, c2⟩ := g3 a ha (by omega)
  refine ⟨fun c q1 q2 => c1 c (by rw [← h1 a 1 (by decide)]; exact q1) q2, fun t q1 q2 => ?_⟩
  rw [h1 a 2 (by decide)]
  exact c2 t (by rw [← h1 a 1 (by decide)]; exact q1) q2
theorem v_col3 (h : col3 m m') {X' : Dt → Dt → Prop} (hX : VT w d m → X d m → X' d m') (k : V w l X' G Q d m' kc ks pc L S) : V w l X G Q d m kc ks pc L S :=
  fun hv hx hl hs H locs lsR hH hlo hL => k (hv.col3 h) (hX hv hx) hl hs H locs lsR (hH.col3 h) hlo hL
theorem col3_st {o t : Int} (h : 0 < o ∧ o < m 0 0) : col3 m (st m o 3 t) := ⟨fun x j hj => st_nk hj, fun x hx => st_na (by omega)⟩
theorem st3 {o t x j : Int} (hj : j ≠ 3) : st m o 3 t x j = m x j := st_nk hj
/-- an array is made as soon as it is there -/
theorem WF.pubA (hX : WF d m) (hv : VT w d m) {o : Int} {t : Nat} (ho : 0 < o) (h1 : m o 1 = (t : Int)) (h3 : m o 3 = 0) (ht : 100 < t ∧ t < 120) : WF d (st m o 3 t) := by
  obtain ⟨w1, w2, w3⟩ := hX
  have g : ∀ x, m x 3 ≠ 0 → st m o 3 t x 3 = m x 3 := fun x h => st_na (fun e => h (by rw [e]; exact h3))
  refine ⟨fun a ha => ?_, fun a c e1 e2 k e3 e4 => ?_, fun a ha => ⟨fun c e1 e2 k e3 e4 => ?_, fun t' e1 e2 e3 i i1 i2 => ?_⟩⟩
  · by_cases e : a = o
    · subst e
      rw [st_eq, st3 (by decide), h1]
      exact ⟨rfl, fun _ => ho⟩
    · rw [st_na e] at ha ⊢
      rw [st_na e]
      exact w1 a ha
  · by_cases e : a = o
    · subst e
      rw [st_eq] at e1
      omega
    · rw [st_na e] at e1
      obtain ⟨p1, p2, p3, p4⟩ := w2 a c e1 e2 k e3 e4
      refine ⟨p1, (g _ (by rw [p2]; exact k_tg0 c e2 k e3 e4)).trans p2, (st3 (by decide)).trans p3, fun e5 i i1 i2 => ?_⟩
      obtain ⟨r1, r2, r3⟩ := p4 e5 i i1 i2
      exact ⟨r1, (g _ (by rw [r2]; exact k_et0 c e2 k e3 e4 e5)).trans r2, (st3 (by decide)).trans r3⟩
  · rw [st3 (by decide)] at e1
    rcases (w3 a ha).1 c e1 e2 k e3 e4 with h | h
    · exact Or.inl h
    · exact Or.inr ((g _ (by rw [h]; exact isRT_tg e4)).trans h)
  · rw [st3 (by decide)] at e1
    rw [st3 (by decide)] at i2
    rcases (w3 a ha).2 t' e1 e2 e3 i i1 i2 with h | h
    · exact Or.inl h
    · exact Or.inr ((g _ (by rw [h]; exact isRT_tg e3)).trans h)
/-- an object is made when it holds what it owns -/
theorem WF.pubO (hX : WF d m) {o : Int} {c : Nat} (ho : OB m o c) (hc : c < 20) (h3 : m o 3 = 0)
    (hown : ∀ k : Nat, k < k_N c → k_of c k ≠ 0 → d o k = o + k_of c k ∧ m (o + k_of c k) 3 = k_tg (k_ty c k) ∧ m (o + k_of c k) 2 = k_ln c k ∧ k_es c k = 0) : WF d (st m o 3 ((c : Int) + 1)) := by
  obtain ⟨w1, w2, w3⟩ := hX
  have g : ∀ x, m x 3 ≠ 0 → st m o 3 ((c : Int) + 1) x 3 = m x 3 := fun x h => st_na (fun e => h (by rw [e]; exact h3))
  refine ⟨fun a ha => ?_, fun a c' e1 e2 k e3 e4 => ?_, fun a ha => ⟨fun c' e1 e2 k e3 e4 => ?_, fun t' e1 e2 e3 i i1 i2 => ?_⟩⟩
  · by_cases e : a = o
    · subst e
      rw [st_eq, st3 (by decide), ho.2]
      exact ⟨rfl, fun _ => ho.1⟩
    · rw [st_na e] at ha ⊢
      rw [st_na e]
      exact w1 a ha
  · by_cases e : a = o
    · subst e
      rw [st_eq] at e1
      have ec : c' = c := by omega
      subst ec
      obtain ⟨p1, p2, p3, p4⟩ := hown k e3 e4
      exact ⟨p1, (g _ (by rw [p2]; exact k_tg0 c' e2 k e3 e4)).trans p2, (st3 (by decide)).trans p3, fun e5 => absurd p4 e5⟩
    · rw [st_na e] at e1
      obtain ⟨p1, p2, p3, p4⟩ := w2 a c' e1 e2 k e3 e4
      refine ⟨p1, (g _ (by rw [p2]; exact k_tg0 c' e2 k e3 e4)).trans p2, (st3 (by decide)).trans p3, fun e5 i i1 i2 => ?_⟩
      obtain ⟨r1, r2, r3⟩ := p4 e5 i i1 i2
      exact ⟨r1, (g _ (by rw [r2]; exact k_et0 c' e2 k e3 e4 e5)).trans r2, (st3 (by decide)).trans r3⟩
  · rw [st3 (by decide)] at e1
    rcases (w3 a ha).1 c' e1 e2 k e3 e4 with h | h
    · exact Or.inl h
    · exact Or.inr ((g _ (by rw [h]; exact isRT_tg e4)).trans h)
  · rw [st3 (by decide)] at e1
    rw [st3 (by decide)] at i2
    rcases (w3 a ha).2 t' e1 e2 e3 i i1 i2 with h | h
    · exact Or.inl h
    · exact Or.inr ((g _ (by rw [h]; exact isRT_tg e3)).trans h)
/-- allocated and made at once -/
def alp (m : Dt) (t n : Int) : Dt := st (aln m t n) (m 0 0) 3 t
theorem alp_nx {t n a b : Int} (h : m 0 0 = a) (h1 : 1 ≤ a) (hb : a + 1 = b) : alp m t n 0 0 = b := by
  unfold alp
  rw [st_na (by omega)]
  exact aln_nx h h1 hb
theorem alp_old {t n x j : Int} (hx : x < m 0 0) (h0 : ¬ (x = 0 ∧ j = 0)) : alp m t n x j = m x j := by
  unfold alp
  rw [st_na (by omega), aln_old (by omega) h0]
theorem alp_3 {t n a : Int} (h : m 0 0 = a) : alp m t n a 3 = t := by
  subst h
  exact st_eq _ _ _ _
theorem alp_2 {t n a : Int} (h : m 0 0 = a) : alp m t n a 2 = n := by
  subst h
  unfold alp
  rw [st3 (by decide)]
  exact aln_2
theorem v_newp (F : Fx w G cc own nL rt rm) {t : Nat} {n : Int} {atype : ArrayType} {ty : FieldType} (hd : decode cc pc = .ok (.newarray atype, 2)) (hty : newarray.typeOf atype = ty) (hel : k_el t = ty) (ht : 100 < t ∧ t < 120) (hk : (k_tys w)[t - 101]? = some (w.2.2.2.2.1 t, ty)) (hra : ∀ U cA, va_RA U cA ty = (U.vm.findClass ("[" ++ ty.toString) = some cA)) (hok : okT ty = true) (h1 : Cond.arrayClass ty ∈ lw_all) (hn : 0 ≤ n ∧ n ≤ 100000) (hb : componentBytes ty ≤ 8)
    (r1 : kc + 1 ≤ rm.cells) {ks' : Nat} (hks : ks + n.toNat = ks') (r2 : ks' ≤ rm.slots) {a : Int} (ha : m 0 0 = a) (kk : V w l WF G Q d (alp m t n) (kc + 1) ks' (pc + 2) L (mA a :: S)) : V w l WF G Q d m kc ks pc L (mI n :: S) := by
  refine v_newa F hd hty hel ht hk hra hok h1 hn hb (fun hv hX => hX.grow hv) r1 hks r2 ha ?_
  refine v_fact fun hv hX _ _ => ?_
  have v1 := hv.1
  have hm : 1 ≤ m 0 0 := by
    rcases Int.lt_or_le (m 0 0) 1 with q | q
    · exfalso
      by_cases e : m 0 0 = 0
      · have : aln m t n 0 0 = 0 := by
          unfold aln
          rw [if_pos e.symm, if_neg (by decide), if_neg (by decide)]
        omega
      · have : aln m t n 0 0 = m 0 0 + 1 := by
          unfold aln
          rw [if_neg (fun h => e h.symm), if_pos ⟨rfl, rfl⟩]
        omega
    · exact q
  have hnx := aln_next (t := (t : Int)) (n := n) hm
  exact v_col3 (m' := alp m t n) (col3_st ⟨by omega, by omega⟩) (fun hv hX => hX.pubA hv (by omega) aln_1 aln_3 ht) kk
end CP
/-! constructors of what is made later, over WF -/
section CW
variable {w : Wd} {l : Launch} {G : Cx} {Q : State → Prop} {d m m' d' : Dt} {kc ks pc nL : Nat} {L S : List MV} {cc : ByteArray} {own : String} {rt : Option FieldType} {rm : Room} {idx c k : Nat} {a x kz : Int} {fin : Bool}
theorem wpI (F : Fx w G cc own nL rt rm) (hf : FL own idx c k fin) (hfi : fin = true → G.2.2.2.2.2.2.2.1.name = "<init>") (hd : decode cc pc = .ok (.putfield idx, 3)) (ho : OB m a c) (hc : c < 20) (h3 : m a 3 = 0) (hz : (k : Int) = kz) (ht : k_ty c k = .int) (kk : V w l WF G Q (st d a kz x) m kc ks (pc + 3) L S) : V w l WF G Q d m kc ks pc L (mI x :: mA a :: S) := by
  subst hz
  exact v_put0 F hf hfi hd ho (x := x) (fun hcn => by rw [ht]; exact ⟨rfl, hcn, rfl, rfl⟩) (fun _ hX => hX.sto ho hc (Or.inr h3) (fun h => by rw [ht] at h; cases h)) kk
theorem wpA (F : Fx w G cc own nL rt rm) (hf : FL own idx c k fin) (hfi : fin = true → G.2.2.2.2.2.2.2.1.name = "<init>") (hd : decode cc pc = .ok (.putfield idx, 3)) (ho : OB m a c) (hc : c < 20) (h3 : m a 3 = 0) (hz : (k : Int) = kz) (ht : kA (k_ty c k) = true) (hx : m x 3 = k_tg (k_ty c k)) (kk : V w l WF G Q (st d a kz x) m kc ks (pc + 3) L S) : V w l WF G Q d m kc ks pc L (mA x :: mA a :: S) := by
  subst hz
  exact v_put0 F hf hfi hd ho (x := x) (fun hcn => ⟨eT_A ht x, cT_A ht x, fitA ht x⟩) (fun _ hX => hX.sto ho hc (Or.inr h3) (fun _ => Or.inr hx)) kk
/-- what an object's own arrays do to the tags -/
def NK (m m' : Dt) (o n : Int) : Prop := m 0 0 = o + 1 ∧ 0 < o ∧ m' 0 0 = o + n ∧ 1 ≤ n ∧ ∀ x j : Int, x < o + 1 → ¬ (x = 0 ∧ j = 0) → m' x j = m x j
theorem NK.ob {o n : Int} {c : Nat} (h : NK m m' o n) (hb : OB m o c) : OB m' o c := ⟨hb.1, by rw [h.2.2.2.2 o 1 (by omega) (by omega)]; exact hb.2⟩
theorem NK.u {o n : Int} (h : NK m m' o n) (hu : m o 3 = 0) : m' o 3 = 0 := by rw [h.2.2.2.2 o 3 (by omega) (by omega)]; exact hu
theorem NK.lt {o n : Int} (h : NK m m' o n) : o < m' 0 0 := by
  obtain ⟨-, -, h1, h2, -⟩ := h
  omega
theorem alp_ob {o t n : Int} {c : Nat} (h : OB m o c) (ho : o < m 0 0) : OB (alp m t n) o c := ⟨h.1, by rw [alp_old ho (by have := h.1; omega)]; exact h.2⟩
theorem PB.alx {t n y : Int} {c : Nat} (h : PB m y c) (hv : VT w d m) : PB (aln m t n) y c := by
  have v1 := hv.1
  have hy : y < m 0 0 := by
    rcases Int.lt_or_le y (m 0 0) with q | q
    · exact q
    · have h1 := hv.2.2.1 y 3 q
      have h2 : m y 3 = (c : Int) + 1 := h
      omega
  show aln m t n y 3 = _
  rw [aln_old (by omega) (by omega)]
  exact h
variable {y : MethodName} {bytes : ByteArray} {maxL n fr lo mc ms : Nat} {as : List MV}
theorem v_initO (F : Fx w G cc own nL rt rm) {o : Int} (hd : decode cc pc = .ok (.invokespecial idx, 3)) (hq : CN_ own idx y bytes maxL n) (hn : as.length = n) (ho : 0 < o) (hM : VM w l WF y bytes maxL none fr lo mc ms d m (mA o :: as) none d' m') {S' : List MV} (hS : as.reverse ++ mA o :: S = S') (hr : rOk rm kc ks fr lo mc ms maxL S)
    (hob : OB m' o c) (hc : c < 20) (h3 : m' o 3 = 0) (hlt : o < m' 0 0) (hown : ∀ k : Nat, k < k_N c → k_of c k ≠ 0 → d' o k = o + k_of c k ∧ m' (o + k_of c k) 3 = k_tg (k_ty c k) ∧ m' (o + k_of c k) 2 = k_ln c k ∧ k_es c k = 0)
    (k : V w l WF G Q d' (st m' o 3 ((c : Int) + 1)) (kc + mc) (ks + ms) (pc + 3) L S) : V w l WF G Q d m kc ks pc L S' :=
  v_callI F hd hq hn ho hM hS hr (v_col3 (col3_st ⟨ho, hlt⟩) (fun _ hX => hX.pubO hob hc h3 hown) k)
end CW
def lm {α : Type} (m : Dt) (f : Dt → α) : α := f m
theorem lm_some {α : Type} {m : Dt} {f : Dt → α} {r : α} (h : lm m f = r) : ∃ x, x = m ∧ f x = r := ⟨m, rfl, h⟩
def b3 {α : Type} (x : Option (Dt × Dt × Int)) (f : Dt → Dt → Int → Option α) : Option α := x.bind (fun p => f p.1 p.2.1 p.2.2)
theorem b3_some {α : Type} {x : Option (Dt × Dt × Int)} {f : Dt → Dt → Int → Option α} {r : α} (h : b3 x f = some r) : ∃ d m v, x = some (d, m, v) ∧ f d m v = some r := by
  unfold b3 at h
  obtain ⟨⟨d, m, v⟩, h1, h2⟩ := Option.bind_eq_some_iff.mp h
  exact ⟨d, m, v, h1, h2⟩
/-! places behind o, without omega in a large context -/
theorem o_le {o k : Int} (ho : 0 < o) (hk : 0 ≤ k) : 1 ≤ o + k := by omega
theorem o_ad {o a b c : Int} (h : a + b = c) : o + a + b = o + c := by omega
theorem o_da {o a b c : Int} (h : a + b = c) : o + c = o + a + b := by omega
theorem o_lt {x o a b : Int} (h : x = o + b) (hab : a < b) : o + a < x := by omega
theorem o_lt0 {x o b : Int} (h : x = o + b) (hab : 0 < b) : o < x := by omega
theorem o_pos {o a : Int} (ho : 0 < o) (ha : 0 ≤ a) : 0 < o + a := by omega
theorem o_l1 {o a : Int} (h : 0 < a) : o < o + a := by omega
theorem o_ne {o a : Int} (h : a ≠ 0) : o ≠ o + a := by omega
theorem al_nxo {L : List (Int × Int × Int × Int)} {m : Dt} {o a n b : Int} (hL : alOk L = true) (h : m 0 0 = o + a) (ho : 0 < o) (ha : 0 ≤ a) (hN : alN L = n) (hs : a + n = b) : al L m 0 0 = o + b := by
  rw [al_nx hL (by omega)]
  omega
theorem mlt_nxo {m : Dt} {t n t2 n2 o a b : Int} (h : m 0 0 = o + a) (ho : 0 < o) (ha : 0 ≤ a) (hb : a + n + 1 = b) : mlt m t n t2 n2 0 0 = o + b := by rw [mlt_next (by omega)]; omega
theorem aln_nxo {m : Dt} {t n o a b : Int} (h : m 0 0 = o + a) (ho : 0 < o) (ha : 0 ≤ a) (hb : a + 1 = b) : aln m t n 0 0 = o + b := by rw [aln_next (by omega)]; omega
