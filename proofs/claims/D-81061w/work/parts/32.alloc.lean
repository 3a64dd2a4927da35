/-! LEVEL 1: allocation -/
def aln (m : Dt) (t n : Int) : Dt := fun a j => if a = m 0 0 then (if j = 1 then t else if j = 2 then n else 0) else if a = 0 ∧ j = 0 then m 0 0 + 1 else m a j
theorem aln_next {m : Dt} (h : 1 ≤ m 0 0) {t n : Int} : aln m t n 0 0 = m 0 0 + 1 := by
  unfold aln
  rw [if_neg (by omega), if_pos ⟨rfl, rfl⟩]
theorem aln_old {m : Dt} {a j t n : Int} (h1 : a ≠ m 0 0) (h2 : ¬ (a = 0 ∧ j = 0)) : aln m t n a j = m a j := by
  unfold aln
  rw [if_neg h1, if_neg h2]
theorem aln_1 {m : Dt} {t n : Int} : aln m t n (m 0 0) 1 = t := by
  unfold aln
  rw [if_pos rfl, if_pos rfl]
theorem aln_2 {m : Dt} {t n : Int} : aln m t n (m 0 0) 2 = n := by
  unfold aln
  rw [if_pos rfl, if_neg (by decide), if_pos rfl]
theorem aln_3 {m : Dt} {t n : Int} : aln m t n (m 0 0) 3 = 0 := by
  unfold aln
  rw [if_pos rfl, if_neg (by decide), if_neg (by decide)]
theorem cT_0 (ty : FieldType) : cT ty 0 := by cases ty <;> simp [cT, in32, in64]
def okT : FieldType → Bool
  | .float => false
  | .double => false
  | _ => true
theorem eT_0 (w : Wd) {ty : FieldType} (h : okT ty = true) : eT w ty 0 = defaultValue ty := by
  cases ty <;> first | rfl | cases h | simp [eT, eR, defaultValue]
theorem VT.grow {w : Wd} {d m : Dt} (hv : VT w d m) {t n : Int} (hg : ∀ t' : Nat, t = (t' : Int) → 100 < t' → t' < 120 ∧ 0 ≤ n ∧ n ≤ 100000) : VT w d (aln m t n) := by
  obtain ⟨v1, v2, v3, v4, v5, v6⟩ := hv
  refine ⟨by rw [aln_next v1]; omega, fun a k ha => v2 a k (by rw [aln_next v1] at ha; omega), fun a j ha => ?_, ⟨?_, ?_⟩, fun a k ha => ?_, fun a ha => ?_⟩
  · rw [aln_next v1] at ha
    rw [aln_old (by omega) (by omega)]
    exact v3 a j (by omega)
  · rw [aln_old (by omega) (by omega)]
    exact v4.1
  · rw [aln_old (by omega) (by omega)]
    exact v4.2
  · rw [aln_old (by omega) (by omega)]
    exact v5 a k ha
  · by_cases e : a = m 0 0
    · refine ⟨fun c _ _ k _ => by rw [v2 a k (by omega)]; exact cT_0 _, fun t' h1 h2 => ?_⟩
      rw [e, aln_1] at h1
      rw [e, aln_2]
      obtain ⟨g1, g2, g3⟩ := hg t' h1 h2
      exact ⟨g1, g2, g3, fun i _ _ => by rw [v2 _ _ (Int.le_refl _)]; exact cT_0 _⟩
    · have g : ∀ j, aln m t n a j = m a j := fun j => aln_old e (by omega)
      rw [g 1, g 2]
      exact v6 a ha
theorem RH.sz {w : Wd} {d m : Dt} {H : Heap} (hH : RH w d m H) (hv : VT w d m) : fA w (m 0 0) = H.size := by
  have h1 := hv.1
  unfold fA
  rw [if_pos (by omega), hH.1]
theorem RH.grow {w : Wd} {d m : Dt} {H H' : Heap} (hH : RH w d m H) (hv : VT w d m) {t n : Int} (z : H'.size = H.size + 1) (o : ∀ q, q < H.size → H'[q]? = H[q]?) (hc : CR w d (aln m t n) (m 0 0) H') : RH w d (aln m t n) H' := by
  have v1 := hv.1
  obtain ⟨h1, h2, h3⟩ := hH
  refine ⟨by rw [z, h1, aln_next v1]; omega, fun q hq => (o q (by omega)).trans (h2 q hq), fun a ha hl => ?_⟩
  rw [aln_next v1] at hl
  by_cases e : a = m 0 0
  · rw [e]; exact hc
  · have g : ∀ j, aln m t n a j = m a j := fun j => aln_old e (by omega)
    have hq : fA w a < H.size := by
      unfold fA
      rw [if_pos ha, h1]
      omega
    obtain ⟨c1, c2⟩ := h3 a ha (by omega)
    refine ⟨fun c e1 e2 => ?_, fun t' e1 e2 => ?_⟩
    · rw [g 1] at e1
      exact (c1 c e1 e2).kept (o _ hq)
    · rw [g 1] at e1
      rw [g 2, o _ hq]
      exact c2 t' e1 e2
theorem k_tg0 : ∀ c, c < 20 → ∀ k, k < k_N c → k_of c k ≠ 0 → k_tg (k_ty c k) ≠ 0 := by decide +kernel
theorem k_et0 : ∀ c, c < 20 → ∀ k, k < k_N c → k_of c k ≠ 0 → k_es c k ≠ 0 → k_et c k ≠ 0 := by decide +kernel
/-- what is made stays so where a cell is added -/
theorem WF.grow {w : Wd} {d m : Dt} (hX : WF d m) (hv : VT w d m) {t n : Int} : WF d (aln m t n) := by
  obtain ⟨v1, v2, v3, v4, v5, v6⟩ := hv
  obtain ⟨h1, h2, h3⟩ := hX
  have g : ∀ a j : Int, a ≠ m 0 0 → j ≠ 0 → aln m t n a j = m a j := fun a j e f => aln_old e (by omega)
  have g3 : ∀ a : Int, aln m t n a 3 = m a 3 := fun a => by
    by_cases e : a = m 0 0
    · rw [e, aln_3, v3 _ _ (Int.le_refl _)]
    · exact g a 3 e (by decide)
  have gn : ∀ a : Int, m a 3 ≠ 0 → a ≠ m 0 0 := fun a h e => h (by rw [e]; exact v3 _ _ (Int.le_refl _))
  refine ⟨fun a ha => ?_, fun a c e1 e2 k e3 e4 => ?_, fun a ha => ⟨fun c e1 e2 k e3 e4 => ?_, fun t' e1 e2 e3 i i1 i2 => ?_⟩⟩
  · rw [g3] at ha ⊢
    rw [g a 1 (gn a ha) (by decide)]
    exact h1 a ha
  · rw [g3] at e1
    obtain ⟨p1, p2, p3, p4⟩ := h2 a c e1 e2 k e3 e4
    refine ⟨p1, (g3 _).trans p2, (g _ 2 (gn _ (by rw [p2]; exact k_tg0 c e2 k e3 e4)) (by decide)).trans p3, fun e5 i i1 i2 => ?_⟩
    obtain ⟨r1, r2, r3⟩ := p4 e5 i i1 i2
    exact ⟨r1, (g3 _).trans r2, (g _ 2 (gn _ (by rw [r2]; exact k_et0 c e2 k e3 e4 e5)) (by decide)).trans r3⟩
  · by_cases e : a = m 0 0
    · exact Or.inl (v2 a k (by omega))
    · rw [g a 1 e (by decide)] at e1
      rw [g3]
      exact (h3 a ha).1 c e1 e2 k e3 e4
  · by_cases e : a = m 0 0
    · exact Or.inl (v2 a i (by omega))
    · rw [g a 1 e (by decide)] at e1
      rw [g a 2 e (by decide)] at i2
      rw [g3]
      exact (h3 a ha).2 t' e1 e2 e3 i i1 i2
section AL
variable {w : Wd} {l : Launch} {X : Dt → Dt → Prop} {G : Cx} {Q : State → Prop} {d m : Dt} {kc ks pc nL : Nat} {L S : List MV} {cc : ByteArray} {own : String} {rt : Option FieldType} {rm : Room} {idx : Nat}
theorem v_new (F : Fx w G cc own nL rt rm) {c n : Nat} {C : String} {T : u_T} {N : Nat} (hd : decode cc pc = .ok (.new idx, 3)) (hc : k_cl[c]? = some (C, T, N)) (hci : c < 20) (hN : k_N c = N) (hok : ∀ k, k < N → okT (k_ty c k) = true) (h1 : Cond.classLink own idx C ∈ lw_all) (h2 : Cond.instantiable C n ∈ lw_all) (h3 : Cond.initialized C ∈ lw_all) (hin : ∀ q ∈ u_ws C T N, q ∈ lw_all) (hty : ∀ k, k < N → parseFieldDescriptor (T k).2.2.1 = some (k_ty c k))
    (hX : VT w d m → X d m → X d (aln m ((c : Int) + 1) 0)) (r1 : kc + 1 ≤ rm.cells) (r2 : ks + n ≤ rm.slots) {a : Int} (ha : m 0 0 = a) (kk : V w l X G Q d (aln m ((c : Int) + 1) 0) (kc + 1) (ks + n) (pc + 3) L (mA a :: S)) : V w l X G Q d m kc ks pc L S := by
  intro hv hx hl hs H locs lsR hH hlo hL
  obtain ⟨f1, f2, f3, f4, f5, f6, f7, f8, f9⟩ := F
  have hKn := f6.1.1 c _ hc
  refine W.newcK f1 f2 f4 (f5 _ h1) (f5 _ h2) (f5 _ h3) rfl hd (by rw [f9]; exact r1) (by rw [f9]; exact r2) hKn.2.1 rfl fun H1 kC hkC e1 z1 o1 => ?_
  have hb := u_born (k_ty c) f5 hin hKn hkC e1 hty
  have hz := hH.sz hv
  have v1 := hv.1
  have hcr : CR w d (aln m ((c : Int) + 1) 0) (m 0 0) H1 := by
    refine ⟨fun c' q1 q2 => ?_, fun t q1 q2 => ?_⟩
    · rw [aln_1] at q1
      have q3 : c' = c := by omega
      subst q3
      rw [hz, hN]
      exact hb.to fun k hk => by
        rw [hv.2.1 _ _ (Int.le_refl _), eT_0 w (hok k hk)]
    · rw [aln_1] at q1
      omega
  have h := kk (hv.grow fun t' q1 q2 => by omega) (hX hv hx) hl ⟨trivial, hs⟩ H1 locs lsR (hH.grow hv z1 o1 hcr) hlo hL
  have he : ((mA a :: S).map (eV w)) = Value.ref H.size :: S.map (eV w) := by
    show eR w a :: _ = _
    rw [← ha, eR_pos (by omega), hz]
  rw [he] at h
  exact h
theorem v_newa (F : Fx w G cc own nL rt rm) {t : Nat} {n : Int} {atype : ArrayType} {ty : FieldType} (hd : decode cc pc = .ok (.newarray atype, 2)) (hty : newarray.typeOf atype = ty) (hel : k_el t = ty) (ht : 100 < t ∧ t < 120) (hk : (k_tys w)[t - 101]? = some (w.2.2.2.2.1 t, ty)) (hra : ∀ U cA, va_RA U cA ty = (U.vm.findClass ("[" ++ ty.toString) = some cA)) (hok : okT ty = true) (h1 : Cond.arrayClass ty ∈ lw_all) (hn : 0 ≤ n ∧ n ≤ 100000) (hb : componentBytes ty ≤ 8)
    (hX : VT w d m → X d m → X d (aln m t n)) (r1 : kc + 1 ≤ rm.cells) {ks' : Nat} (hks : ks + n.toNat = ks') (r2 : ks' ≤ rm.slots) {a : Int} (ha : m 0 0 = a) (kk : V w l X G Q d (aln m t n) (kc + 1) ks' (pc + 2) L (mA a :: S)) : V w l X G Q d m kc ks pc L (mI n :: S) := by
  intro hv hx hl hs H locs lsR hH hlo hL
  subst hty
  subst hks
  obtain ⟨f1, f2, f3, f4, f5, f6, f7, f8, f9⟩ := F
  have hz := hH.sz hv
  have v1 := hv.1
  have e0 : (Int32.ofInt n).toNatClampNeg = n.toNat := by
    rw [← Int32.toNat_toInt, Int32.toInt_ofInt_of_le (by omega) (by omega)]
  refine va_newaK (N := n.toNat) f1 f2 (f5 _ h1) rfl hd (rest := S.map (eV w)) rfl (by rw [Int32.lt_iff_toInt_lt, Int32.toInt_ofInt_of_le (by omega) (by omega)]; show ¬ n < 0; omega) e0 (by
    have := Nat.mul_le_mul (show n.toNat ≤ 100000 by omega) hb
    omega) (by rw [f9]; exact r1) (by rw [f9]; exact r2) rfl fun H1 cA e1 z1 o1 hA hfc => ?_
  have hcA : cA = w.2.2.2.2.1 t := by
    have q := (f6.1.2 _ _ hk).2
    rw [hra] at q
    exact Option.some.inj (hfc.symm.trans q)
  have hcr : CR w d (aln m t n) (m 0 0) H1 := by
    refine ⟨fun c' q1 q2 => ?_, fun t' q1 q2 => ?_⟩
    · rw [aln_1] at q1
      omega
    · rw [aln_1] at q1
      have q3 : t' = t := by omega
      subst q3
      rw [hz, aln_2, e1, hcA, hel]
      congr 2
      funext j
      rw [hv.2.1 _ _ (Int.le_refl _), eT_0 w hok]
  have h := kk (hv.grow fun t' q1 q2 => by omega) (hX hv hx) hl ⟨trivial, hs.2⟩ H1 locs lsR (hH.grow hv z1 o1 hcr) hlo hL
  have he : ((mA a :: S).map (eV w)) = Value.ref H.size :: S.map (eV w) := by
    show eR w a :: _ = _
    rw [← ha, eR_pos (by omega), hz]
  rw [he] at h
  exact h
theorem v_anew (F : Fx w G cc own nL rt rm) {t : Nat} {n : Int} {C : String} (hd : decode cc pc = .ok (.anewarray idx, 3)) (hel : k_el t = (.object C)) (ht : 100 < t ∧ t < 120) (hk : (k_tys w)[t - 101]? = some (w.2.2.2.2.1 t, (.object C))) (h1 : Cond.classLink own idx C ∈ lw_all) (h2 : Cond.arrayOver (.object C) ∈ lw_tbl) (hn : 0 ≤ n ∧ n ≤ 100000)
    (hX : VT w d m → X d m → X d (aln m t n)) (r1 : kc + 1 ≤ rm.cells) {ks' : Nat} (hks : ks + n.toNat = ks') (r2 : ks' ≤ rm.slots) {a : Int} (ha : m 0 0 = a) (kk : V w l X G Q d (aln m t n) (kc + 1) ks' (pc + 3) L (mA a :: S)) : V w l X G Q d m kc ks pc L (mI n :: S) := by
  intro hv hx hl hs H locs lsR hH hlo hL
  subst hks
  obtain ⟨f1, f2, f3, f4, f5, f6, f7, f8, f9⟩ := F
  have hz := hH.sz hv
  have v1 := hv.1
  have e0 : (Int32.ofInt n).toNatClampNeg = n.toNat := by
    rw [← Int32.toNat_toInt, Int32.toInt_ofInt_of_le (by omega) (by omega)]
  have hov : (Cond.arrayOver (.object C)).before G.2.2.2.2.2.1 G.2.2.2.1 = true := f6.2.1 _ (List.mem_filter.mpr ⟨h2, rfl⟩)
  refine W.anew f1 f2 f4 (f5 _ h1) hov rfl hd (rest := S.map (eV w)) rfl (by rw [Int32.lt_iff_toInt_lt, Int32.toInt_ofInt_of_le (by omega) (by omega)]; show ¬ n < 0; omega) (by rw [e0]; omega) (by rw [f9]; exact r1) (by rw [f9, e0]; exact r2) fun cA kA comp q1 q2 q3 q4 => ?_
  rw [e0]
  generalize hH1 : H.push ({ cls := cA, slots := Array.replicate n.toNat .null, vm := .none } : Cell) = H1
  have z1 : H1.size = H.size + 1 := by rw [← hH1, Array.size_push]
  have e1 : H1[H.size]? = some (arrV cA n.toNat (fun _ => .null)) := by rw [← hH1, Array.getElem?_push_size, ← arrV_new]
  have o1 : ∀ q : Nat, q < H.size → H1[q]? = H[q]? := fun q hq => by rw [← hH1, Array.getElem?_push, if_neg (Nat.ne_of_lt hq)]
  have hcA : cA = w.2.2.2.2.1 t := by
    have q := (f6.1.2 _ _ hk).2
    exact Option.some.inj (q1.symm.trans q.choose_spec.choose_spec.2.2.2)
  have hcr : CR w d (aln m t n) (m 0 0) H1 := by
    refine ⟨fun c' q1 q2 => ?_, fun t' q1 q2 => ?_⟩
    · rw [aln_1] at q1
      omega
    · rw [aln_1] at q1
      have q3 : t' = t := by omega
      subst q3
      rw [hz, aln_2, e1, hcA, hel]
      congr 2
      funext j
      rw [hv.2.1 _ _ (Int.le_refl _)]
      simp [eT, eR]
  have h := kk (hv.grow fun t' q1 q2 => by omega) (hX hv hx) hl ⟨trivial, hs.2⟩ H1 locs lsR (hH.grow hv z1 o1 hcr) hlo hL
  have he : ((mA a :: S).map (eV w)) = Value.ref H.size :: S.map (eV w) := by
    show eR w a :: _ = _
    rw [← ha, eR_pos (by omega), hz]
  rw [he] at h
  exact h
theorem v_anewA (F : Fx w G cc own nL rt rm) {t : Nat} {n : Int} {C : FieldType} (hd : decode cc pc = .ok (.anewarray idx, 3)) (hel : k_el t = (.array C)) (ht : 100 < t ∧ t < 120) (hk : (k_tys w)[t - 101]? = some (w.2.2.2.2.1 t, (.array C))) (h1 : Cond.classLink own idx (FieldType.array C).toString ∈ lw_all) (h2 : Cond.arrayOver (.array C) ∈ lw_tbl) (hn : 0 ≤ n ∧ n ≤ 100000)
    (hX : VT w d m → X d m → X d (aln m t n)) (r1 : kc + 1 ≤ rm.cells) {ks' : Nat} (hks : ks + n.toNat = ks') (r2 : ks' ≤ rm.slots) {a : Int} (ha : m 0 0 = a) (kk : V w l X G Q d (aln m t n) (kc + 1) ks' (pc + 3) L (mA a :: S)) : V w l X G Q d m kc ks pc L (mI n :: S) := by
  intro hv hx hl hs H locs lsR hH hlo hL
  subst hks
  obtain ⟨f1, f2, f3, f4, f5, f6, f7, f8, f9⟩ := F
  have hz := hH.sz hv
  have v1 := hv.1
  have e0 : (Int32.ofInt n).toNatClampNeg = n.toNat := by
    rw [← Int32.toNat_toInt, Int32.toInt_ofInt_of_le (by omega) (by omega)]
  have hov : (Cond.arrayOver (.array C)).before G.2.2.2.2.2.1 G.2.2.2.1 = true := f6.2.1 _ (List.mem_filter.mpr ⟨h2, rfl⟩)
  refine W.anewA f1 f2 f4 (f5 _ h1) hov rfl hd (rest := S.map (eV w)) rfl (by rw [Int32.lt_iff_toInt_lt, Int32.toInt_ofInt_of_le (by omega) (by omega)]; show ¬ n < 0; omega) (by rw [e0]; omega) (by rw [f9]; exact r1) (by rw [f9, e0]; exact r2) fun cA kA comp q1 q2 q3 q4 => ?_
  rw [e0]
  generalize hH1 : H.push ({ cls := cA, slots := Array.replicate n.toNat .null, vm := .none } : Cell) = H1
  have z1 : H1.size = H.size + 1 := by rw [← hH1, Array.size_push]
  have e1 : H1[H.size]? = some (arrV cA n.toNat (fun _ => .null)) := by rw [← hH1, Array.getElem?_push_size, ← arrV_new]
  have o1 : ∀ q : Nat, q < H.size → H1[q]? = H[q]? := fun q hq => by rw [← hH1, Array.getElem?_push, if_neg (Nat.ne_of_lt hq)]
  have hcA : cA = w.2.2.2.2.1 t := by
    have q := (f6.1.2 _ _ hk).2
    exact Option.some.inj (q1.symm.trans q)
  have hcr : CR w d (aln m t n) (m 0 0) H1 := by
    refine ⟨fun c' q1 q2 => ?_, fun t' q1 q2 => ?_⟩
    · rw [aln_1] at q1
      omega
    · rw [aln_1] at q1
      have q3 : t' = t := by omega
      subst q3
      rw [hz, aln_2, e1, hcA, hel]
      congr 2
      funext j
      rw [hv.2.1 _ _ (Int.le_refl _)]
      simp [eT, eR]
  have h := kk (hv.grow fun t' q1 q2 => by omega) (hX hv hx) hl ⟨trivial, hs.2⟩ H1 locs lsR (hH.grow hv z1 o1 hcr) hlo hL
  have he : ((mA a :: S).map (eV w)) = Value.ref H.size :: S.map (eV w) := by
    show eR w a :: _ = _
    rw [← ha, eR_pos (by omega), hz]
  rw [he] at h
  exact h
end AL
