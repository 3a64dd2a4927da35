/-! LEVEL 1: runs of an array, what was there before, references in arrays -/
section RW
variable {w : Wd} {d d' m : Dt} {a n : Int} {t : Nat}
theorem VT.row (h : VT w d m) (ho : AR m a t n) (ht : 100 < t) (h1 : ∀ x y, x ≠ a → d' x y = d x y) (h2 : ∀ y, 0 ≤ y → y < n → cT (k_el t) (d' a y)) : VT w d' m := by
  have hlt := h.lt (show m a 1 ≠ 0 by rw [ho.2.1]; omega)
  obtain ⟨g1, g2, g3, g4, g5, g6⟩ := h
  refine ⟨g1, fun b j hb => ?_, g3, g4, fun b j hb => ?_, fun b hb => ⟨fun c' e1 e2 k' e3 => ?_, fun t' e1 e2 => ?_⟩⟩
  · rw [h1 b j (by omega)]; exact g2 b j hb
  · rw [h1 b j (by have := ho.1; omega)]; exact g5 b j hb
  · have e : b ≠ a := by
      intro e
      subst e
      have := ho.2.1
      omega
    rw [h1 b _ e]
    exact (g6 b hb).1 c' e1 e2 k' e3
  · obtain ⟨q1, q2, q3, q4⟩ := (g6 b hb).2 t' e1 e2
    refine ⟨q1, q2, q3, fun j hi1 hi2 => ?_⟩
    by_cases e : b = a
    · subst e
      have e6 : t' = t := by have := ho.2.1; omega
      subst e6
      exact h2 j hi1 (by rw [← ho.2.2]; exact hi2)
    · rw [h1 b j e]
      exact q4 j hi1 hi2
theorem RH.row {H H' : Heap} (hH : RH w d m H) (ho : AR m a t n) (ht : 100 < t) (h1 : ∀ x y, x ≠ a → d' x y = d x y)
    (e1 : H'[fA w a]? = some (arrV (w.2.2.2.2.1 t) n.toNat (fun j => eT w (k_el t) (d' a j)))) (e2 : H'.size = H.size) (e3 : ∀ q, q ≠ fA w a → H'[q]? = H[q]?) : RH w d' m H' := by
  obtain ⟨g1, g2, g3⟩ := hH
  refine ⟨e2.trans g1, fun q hq => ?_, fun b hb1 hb2 => ?_⟩
  · rw [e3 q (by rw [fA_pos ho.1]; omega)]; exact g2 q hq
  · by_cases e : b = a
    · subst e
      refine ⟨fun c' q1 q2 => ?_, fun t' q1 q2 => ?_⟩
      · have := ho.2.1
        omega
      · have e6 : t' = t := by have := ho.2.1; omega
        subst e6
        rw [e1, ho.2.2]
    · exact CR.keep (g3 b hb1 hb2) (fun j => h1 b j e) (e3 _ (fA_ne ho.1 hb1 e))
theorem WF.row (hX : WF d m) (ho : AR m a t n) (ht : 100 < t) (hno : elT t = false) (hr : isRT (k_el t) = false) (h1 : ∀ x y, x ≠ a → d' x y = d x y) : WF d' m := by
  obtain ⟨g1, g2, g3⟩ := hX
  refine ⟨g1, fun b c' e1 e2 k' e3 e4 => ?_, fun b hb => ⟨fun c' e1 e2 k' e3 e4 => ?_, fun t' e1 e2 e3 j i1 i2 => ?_⟩⟩
  · obtain ⟨f1, f2, f3, f4⟩ := g2 b c' e1 e2 k' e3 e4
    refine ⟨?_, f2, f3, fun e5 j i1 i2 => ?_⟩
    · rw [h1, f1]
      intro e
      subst e
      have h5 := (g1 b (by omega)).1
      have h6 := ho.2.1
      omega
    · obtain ⟨q1, q2, q3⟩ := f4 e5 j i1 i2
      refine ⟨?_, q2, q3⟩
      have z0 := k_elT c' e2 k' e3 e5
      have z := elT_big z0
      rw [h1, q1]
      intro e
      have h5 := (g1 (b + k_of c' k') (by omega)).1
      rw [e, ho.2.1] at h5
      rw [e] at f2
      rw [← f2, ← h5, hno] at z0
      cases z0
  · have e : b ≠ a := by
      intro e
      subst e
      have := ho.2.1
      omega
    rw [h1 b _ e]
    exact (g3 b hb).1 c' e1 e2 k' e3 e4
  · by_cases e : b = a
    · subst e
      have h6 := ho.2.1
      have e8 : t' = t := by omega
      subst e8
      rw [hr] at e3
      cases e3
    · rw [h1 b j e]
      exact (g3 b hb).2 t' e1 e2 e3 j i1 i2
end RW
/-- a run of b becomes a run of a -/
def cpD (d : Dt) (a i b j n : Int) : Dt := fun x y => if x = b ∧ j ≤ y ∧ y < j + n then d a (i + (y - j)) else d x y
def cd {α : Type} (d : Dt) (a i b j n : Int) (f : Dt → α) : α := f (cpD d a i b j n)
theorem cd_some {α : Type} {d : Dt} {a i b j n : Int} {f : Dt → α} {r : α} (h : cd d a i b j n f = r) : ∃ d1, d1 = cpD d a i b j n ∧ f d1 = r := ⟨_, rfl, h⟩
/-- the same out of a constant row -/
def cxD (d : Dt) (l : List Int) (i b j n : Int) : Dt := fun x y => if x = b ∧ j ≤ y ∧ y < j + n then l.getD (i + (y - j)).toNat 0 else d x y
def cx {α : Type} (d : Dt) (l : List Int) (i b j n : Int) (f : Dt → α) : α := f (cxD d l i b j n)
theorem cx_some {α : Type} {d : Dt} {l : List Int} {i b j n : Int} {f : Dt → α} {r : α} (h : cx d l i b j n f = r) : ∃ d1, d1 = cxD d l i b j n ∧ f d1 = r := ⟨_, rfl, h⟩
theorem W.copyG {p : Program} {l : Launch} {e : Env} {R : Room} {s : State} {m : MethodId} {args : Array Value} {below : List Frame} {meth : Method} {c : Code} {H : Heap} {locs : List Loc} {cells slots : Nat} {Q : State → Prop} {cc : ByteArray} {pc : Nat} {ls : Array Slot} {rest : List Value}
    (hexec : p.tables.exec = Jvm.exec) (hb : c.code = cc) (hml : c.maxLocals = ls.size) {own : String} {index : Nat} (hown : s.vm.findClass own = some m.cls) (hlink : (Cond.methodLink own index arraycopyName).before args s = true) (hnat : (Cond.native arraycopyName).before args s = true) (hstat : (Cond.static arraycopyName).before args s = true) (hini : (Cond.initialized "java/lang/System").before args s = true)
    {a a0 : Nat} {cs : Cell} {c1 : ClassId} {n0 n1 : Nat} {α : Type} {mk : α → Value} {f g : Nat → α} {ty : FieldType} (hc0 : H[a0]? = some cs) (hs0 : s.isArrayOf cs ty) (hk0 : cs.vm ≠ .unknown) (hn0 : n0 ≤ cs.slots.size) (hsl : ∀ j, j < n0 → cs.slots[j]? = some (mk (f j))) (hc1 : H[a]? = some (arrV c1 n1 (fun j => mk (g j)))) (ha1 : ArrOfT s c1 ty) (hprim : refKind ty = false)
    {sp dp n : Int32} (h1 : ¬ sp < 0) (h2 : ¬ dp < 0) (h3 : ¬ n < 0) (h4 : sp.toNatClampNeg + n.toNatClampNeg ≤ n0) (h5 : dp.toNatClampNeg + n.toNatClampNeg ≤ n1) (hfit : ∀ i, i < n.toNatClampNeg → fits ty (mk (f (sp.toNatClampNeg + i))) = true ∧ ∀ q, mk (f (sp.toNatClampNeg + i)) ≠ .ref q)
    (hframes : 1 ≤ R.frames) (hlocals : (rest.map fun v => v.category).sum + (nativeFrameWords "java/lang/System" "arraycopy" 5 + 11) ≤ R.locals) (hdg : decode cc pc = .ok (.invokestatic index, 3))
    (kk : ∀ (H1 : Heap) (L : List Loc), (∀ q ∈ L, q.base = a) → H1[a]? = some (arrV c1 n1 (fun j => mk (va_cpy f g sp.toNatClampNeg dp.toNatClampNeg n.toNatClampNeg j))) → H1.size = H.size → (∀ q, q ≠ a → H1[q]? = H[q]?) → W p l e R s m args below meth c H1 (locs ++ L) cells slots Q (F0 m (pc + 3) ls rest)) : W p l e R s m args below meth c H locs cells slots Q (F0 m pc ls (.int n :: .int dp :: .ref a :: .int sp :: .ref a0 :: rest)) := by
  have nn : ∀ z : Int32, ¬ z < 0 → z.toInt = (z.toNatClampNeg : Int) := by
    intro z hz
    have hz0 : (0 : Int) ≤ z.toInt := by
      have := Int32.not_lt.mp hz
      simpa using Int32.le_iff_toInt_le.mp this
    show z.toInt = ((z.toInt.toNat : Nat) : Int)
    omega
  intro T hT X
  obtain ⟨hob0, k0, hk0', cm0, hkk0⟩ := hs0
  obtain ⟨-, k1, hk1, cm1, hkk1⟩ := ha1 n1 (fun j => mk (g j))
  obtain ⟨vm', X', step⟩ := X.arraycopy hexec hown hlink hnat hstat hini (src := a0) (dst := a) (cs := cs) (cd := arrV c1 n1 (fun j => mk (g j))) (srcPos := sp) (destPos := dp) (n := n) (by rw [hT]; exact hc0) (by rw [hT]; exact hc1)
    hob0 (fun _ h => by cases h) hk0 (fun h => by cases h) hk0' hk1 hkk0 hkk1 (by simp [hprim]) h1 h2 h3
    (by rw [nn sp h1, nn n h3]; omega)
    (by rw [nn dp h2, nn n h3]; rw [arrV_size]; omega)
    (fun vm₁ _ i hi => by
      have e : cs.slots.getD (sp.toNatClampNeg + i) .null = mk (f (sp.toNatClampNeg + i)) := by
        rw [Array.getD_eq_getD_getElem?, hsl _ (by omega)]
        rfl
      obtain ⟨q1, q2⟩ := hfit i hi
      rw [e]
      refine ⟨q1, ?_⟩
      cases hz : mk (f (sp.toNatClampNeg + i)) <;> first | exact trivial | exact absurd hz (q2 _))
    (g := F0 m pc ls (.int n :: .int dp :: .ref a :: .int sp :: .ref a0 :: rest)) rfl (by rw [hml]) (rest := rest) rfl (by rw [hb]; exact hdg) hframes (by show 2 * 0 + _ + _ ≤ _; omega)
  have e1 : copied cs (arrV c1 n1 (fun j => mk (g j))) sp dp n = arrV c1 n1 (fun j => mk (va_cpy f g sp.toNatClampNeg dp.toNatClampNeg n.toNatClampNeg j)) := va_copiedX mk cs c1 f g hsl h4
  rw [e1] at X' step
  have hl : a < H.size := (Array.getElem?_eq_some_iff.mp hc1).1
  have hheap : ((T.setVm vm').setCell a (arrV c1 n1 (fun j => mk (va_cpy f g sp.toNatClampNeg dp.toNatClampNeg n.toNatClampNeg j)))).heap = H.setIfInBounds a (arrV c1 n1 (fun j => mk (va_cpy f g sp.toNatClampNeg dp.toNatClampNeg n.toNatClampNeg j))) := by rw [← hT]; rfl
  obtain ⟨t, a1, b1⟩ := kk _ _ (fun q hq => by
      obtain ⟨z, -, hz⟩ := List.mem_map.mp hq
      rw [← hz]) (by simp [Array.getElem?_setIfInBounds, hl]) (by simp) (fun q hq => by simp [Array.getElem?_setIfInBounds, Ne.symm hq]) _ hheap X'
  exact ⟨t, step t a1, b1⟩
/-- what arraycopy asks of the tables -/
def CA (own : String) (idx : Nat) : Prop := Cond.methodLink own idx arraycopyName ∈ lw_all ∧ Cond.native arraycopyName ∈ lw_all ∧ Cond.static arraycopyName ∈ lw_all ∧ Cond.initialized "java/lang/System" ∈ lw_all
section VX
variable {w : Wd} {l : Launch} {X : Dt → Dt → Prop} {G : Cx} {Q : State → Prop} {d m : Dt} {kc ks pc nL : Nat} {L S : List MV} {cc : ByteArray} {own : String} {rt : Option FieldType} {rm : Room}
theorem cT_fit {ty : FieldType} (hp : ty = .int ∨ ty = .byte ∨ ty = .long ∨ ty = .boolean) {x : Int} (hc : cT ty x) : fits ty (eT w ty x) = true ∧ ∀ q, eT w ty x ≠ .ref q := by
  rcases hp with rfl | rfl | rfl | rfl
  · exact ⟨rfl, fun q h => by cases h⟩
  · exact ⟨(fit_byte hc).2, fun q h => by cases h⟩
  · exact ⟨rfl, fun q h => by cases h⟩
  · exact ⟨(fit_of (ty := .boolean) hc rfl).2, fun q h => by cases h⟩
theorem v_copy (F : Fx w G cc own nL rt rm) {idx t : Nat} {a b i j n la lb : Int} (hd : decode cc pc = .ok (.invokestatic idx, 3)) (hq : CA own idx) (ha : AR m a t la) (hb : AR m b t lb) (ht : 100 < t) (hty : k_el t = .int ∨ k_el t = .byte ∨ k_el t = .long ∨ k_el t = .boolean) (hno : elT t = false) (hk : (k_tys w)[t - 101]? = some (w.2.2.2.2.1 t, k_el t))
    (hi : 0 ≤ i ∧ 0 ≤ j ∧ 0 ≤ n ∧ i + n ≤ la ∧ j + n ≤ lb) (hr : (Nat.ble 1 rm.frames && Nat.ble (cat_ S + (nativeFrameWords "java/lang/System" "arraycopy" 5 + 11)) rm.locals) = true)
    (kk : V w l WF G Q (cpD d a i b j n) m kc ks (pc + 3) L S) : V w l WF G Q d m kc ks pc L (mI n :: mI j :: mA b :: mI i :: mA a :: S) := by
  intro hv hx hl hs H locs lsR hH hlo hL
  simp only [Bool.and_eq_true] at hr
  obtain ⟨c1, c2, c3, c4, c5, c6⟩ := hs
  have h0 := hH.cell hv ha ht
  have h1 := hH.cell hv hb ht
  have hel : ∀ y, 0 ≤ y → y < la → cT (k_el t) (d a y) := fun y g1 g2 => hv.el ha ht ⟨g1, g2⟩
  have hel2 : ∀ y, 0 ≤ y → y < lb → cT (k_el t) (d b y) := fun y g1 g2 => hv.el hb ht ⟨g1, g2⟩
  have hrf : refKind (k_el t) = false := by rcases hty with h | h | h | h <;> rw [h] <;> rfl
  have hrt : isRT (k_el t) = false := by rcases hty with h | h | h | h <;> rw [h] <;> rfl
  have hn1 : ∀ z : Int, in32 z → 0 ≤ z → ¬ Int32.ofInt z < 0 := fun z hz h q => by have := (i32_lt hz in32_0).mp q; omega
  show W _ _ _ _ _ _ _ _ _ _ _ _ _ _ _ (F0 _ pc lsR (.int (Int32.ofInt n) :: .int (Int32.ofInt j) :: eR w b :: .int (Int32.ofInt i) :: eR w a :: _))
  rw [eR_pos ha.1, eR_pos hb.1]
  refine W.copyG (mk := eT w (k_el t)) (f := fun j => d a j) (g := fun j => d b j) (n0 := la.toNat) (n1 := lb.toNat) F.1 F.2.1 hL.1.symm F.2.2.2.1 (F.2.2.2.2.1 _ hq.1) (F.2.2.2.2.1 _ hq.2.1) (F.2.2.2.2.1 _ hq.2.2.1) (F.2.2.2.2.1 _ hq.2.2.2) h0 (KU.ar F.2.2.2.2.2.1 hk _ _) (fun h => by cases h) (by rw [arrV_size]; exact Nat.le_refl _) (fun j hj => arrV_read _ _ hj) h1 (KU.ar F.2.2.2.2.2.1 hk) hrf
    (hn1 i c4 hi.1) (hn1 j c2 hi.2.1) (hn1 n c1 hi.2.2.1) (by rw [i32_cl c4, i32_cl c1]; omega) (by rw [i32_cl c2, i32_cl c1]; omega)
    (fun q hq => by
      rw [i32_cl c1] at hq
      exact cT_fit hty (hel _ (by omega) (by rw [i32_cl c4]; omega)))
    (by rw [F.2.2.2.2.2.2.2.2]; exact Nat.le_of_ble_eq_true hr.1) (by rw [F.2.2.2.2.2.2.2.2, cat_ok]; exact Nat.le_of_ble_eq_true hr.2) hd ?_
  intro H1 Lc hLc e1 e2 e3
  have hne : ∀ x y, x ≠ b → cpD d a i b j n x y = d x y := fun x y h => by unfold cpD; rw [if_neg (fun q => h q.1)]
  refine kk (hv.row hb ht hne (fun y y1 y2 => ?_)) (hx.row hb ht hno hrt hne) hl c6 H1 _ lsR (hH.row hb ht hne ?_ e2 e3) (fun q hq => ?_) hL
  · unfold cpD
    split
    · exact hel _ (by omega) (by omega)
    · exact hel2 y y1 y2
  · rw [e1]
    congr 2
    funext z
    unfold cpD va_cpy
    rw [i32_cl c1, i32_cl c2, i32_cl c4]
    by_cases hz : j.toNat ≤ z ∧ z < j.toNat + n.toNat
    · rw [if_pos hz, if_pos (by omega)]
      show eT w (k_el t) (d a ((i.toNat + (z - j.toNat) : Nat) : Int)) = _
      congr 2
      omega
    · rw [if_neg hz, if_neg (by omega)]
  · rcases List.mem_append.mp hq with h | h
    · exact hlo q h
    · rw [hLc q h, fA_pos hb.1]; omega
/-- a cell that was there is there still -/
theorem RH.old {H : Heap} (hH : RH w d m H) {q : Nat} {cell : Cell} (h : w.1[q]? = some cell) : H[q]? = some cell := by
  rw [hH.2.1 q (Array.getElem?_eq_some_iff.mp h).1]
  exact h
theorem eR_old {v : Int} (h : v < 0) : eR w v = .ref (w.2.1 v) := by
  unfold eR fA
  rw [if_neg (by omega), if_neg (by omega)]
/-- a static -/
theorem v_gst (F : Fx w G cc own nL rt rm) {idx : Nat} {C n ds : String} {v : MV} (hd : decode cc pc = .ok (.getstatic idx, 3)) (hq : Cond.fieldLink own idx C n ds ∈ lw_all) (hZ : va_Z C n ds (eV w v) (fun q => w.1.size ≤ q) G.2.2.2.1 w.1) (hc : cn v) (kk : V w l X G Q d m kc ks (pc + 3) L (v :: S)) : V w l X G Q d m kc ks pc L S := by
  intro hv hx hl hs H locs lsR hH hlo hL
  obtain ⟨cf, kf, fi, f, a, cell, h1, h2, h3, h4, h5, h6, h7, h8⟩ := hZ
  exact W.gets F.1 F.2.1 F.2.2.2.1 (F.2.2.2.2.1 _ hq) h1 h2 h3 h4 (hH.old h5) (by intro h; rw [h] at h6; cases h6) h7 rfl hd (kk hv hx hl ⟨hc, hs⟩ H locs lsR hH hlo hL)
/-- a text by a pool's entry -/
theorem v_lds (F : Fx w G cc own nL rt rm) {idx : Nat} {tx : String} {a : Int} (hd : decode cc pc = .ok (.ldc idx, 2)) (hq : (own, idx, tx, a) ∈ sTab) (ha : a < 0) (kk : V w l X G Q d m kc ks (pc + 2) L (mA a :: S)) : V w l X G Q d m kc ks pc L S := by
  intro hv hx hl hs H locs lsR hH hlo hL
  have h := kk hv hx hl ⟨trivial, hs⟩ H locs lsR hH hlo hL
  have e : eV w (mA a) = .ref (w.2.1 a) := eR_old ha
  rw [List.map_cons, e] at h
  exact va_ldcS F.1 F.2.1 F.2.2.2.1 (F.2.2.2.2.2.1.2.2.2.2.2.2.2.2.1.1 _ hq) hd h
/-- a constant int array is read -/
theorem v_xald (F : Fx w G cc own nL rt rm) {a i n : Int} {f : Int → Int} (hd : decode cc pc = .ok (.iaload, 1)) (ha : a < 0) (hT : va_T .int (w.2.1 a) n.toNat (fun j => .int (Int32.ofInt (f j))) (fun q => w.1.size ≤ q) G.2.2.2.1 w.1) (hi : 0 ≤ i ∧ i < n) (hf : in32 (f i)) (kk : V w l X G Q d m kc ks (pc + 1) L (mI (f i) :: S)) : V w l X G Q d m kc ks pc L (mI i :: mA a :: S) := by
  intro hv hx hl hs H locs lsR hH hlo hL
  obtain ⟨cell, h1, h2, h3, h4, h5, h6, h7⟩ := hT
  have h := kk hv hx hl ⟨hf, hs.2.2⟩ H locs lsR hH hlo hL
  show W _ _ _ _ _ _ _ _ _ _ _ _ _ _ _ (F0 _ pc lsR (.int (Int32.ofInt i) :: eR w a :: _))
  rw [eR_old ha]
  refine W.iald F.1 F.2.1 (hH.old h1) h2 h3 ?_ (v := .int (Int32.ofInt (f i))) ?_ rfl rfl hd h
  · rw [i32_cl hs.1]
    intro q
    rcases q with q | q
    · have := (i32_lt hs.1 in32_0).mp q
      omega
    · omega
  · rw [i32_cl hs.1, h6 _ (by omega)]
    show some (Value.int (Int32.ofInt (f (i.toNat : Int)))) = _
    rw [Int.toNat_of_nonneg hi.1]
theorem v_xbld (F : Fx w G cc own nL rt rm) {a i n : Int} {f : Int → Int} (hd : decode cc pc = .ok (.baload, 1)) (ha : a < 0) (hT : va_T .byte (w.2.1 a) n.toNat (fun j => .int (Int32.ofInt (f j))) (fun q => w.1.size ≤ q) G.2.2.2.1 w.1) (hi : 0 ≤ i ∧ i < n) (hf : in32 (f i)) (kk : V w l X G Q d m kc ks (pc + 1) L (mI (f i) :: S)) : V w l X G Q d m kc ks pc L (mI i :: mA a :: S) := by
  intro hv hx hl hs H locs lsR hH hlo hL
  obtain ⟨cell, h1, h2, h3, h4, h5, h6, h7⟩ := hT
  have h := kk hv hx hl ⟨hf, hs.2.2⟩ H locs lsR hH hlo hL
  show W _ _ _ _ _ _ _ _ _ _ _ _ _ _ _ (F0 _ pc lsR (.int (Int32.ofInt i) :: eR w a :: _))
  rw [eR_old ha]
  refine W.bald F.1 F.2.1 (hH.old h1) h2 h3 ?_ (v := .int (Int32.ofInt (f i))) ?_ rfl rfl hd h
  · rw [i32_cl hs.1]
    intro q
    rcases q with q | q
    · have := (i32_lt hs.1 in32_0).mp q
      omega
    · omega
  · rw [i32_cl hs.1, h6 _ (by omega)]
    show some (Value.int (Int32.ofInt (f (i.toNat : Int)))) = _
    rw [Int.toNat_of_nonneg hi.1]
theorem v_xlen (F : Fx w G cc own nL rt rm) {a n : Int} {f : Nat → Value} {ty : FieldType} (hd : decode cc pc = .ok (.arraylength, 1)) (ha : a < 0) (hT : va_T ty (w.2.1 a) n.toNat f (fun q => w.1.size ≤ q) G.2.2.2.1 w.1) (hn : 0 ≤ n ∧ n ≤ 100000) (kk : V w l X G Q d m kc ks (pc + 1) L (mI n :: S)) : V w l X G Q d m kc ks pc L (mA a :: S) := by
  intro hv hx hl hs H locs lsR hH hlo hL
  obtain ⟨cell, h1, h2, h3, h4, h5, h6, h7⟩ := hT
  have h := kk hv hx hl ⟨by unfold cn in32; omega, hs.2⟩ H locs lsR hH hlo hL
  show W _ _ _ _ _ _ _ _ _ _ _ _ _ _ _ (F0 _ pc lsR (eR w a :: _))
  rw [eR_old ha]
  refine W.alen F.1 F.2.1 (hH.old h1) h2 (n := Int32.ofInt n) ?_ rfl rfl hd h
  rw [h5, ← Int32.ofInt_eq_ofNat, Int.toNat_of_nonneg hn.1]
/-- a field of a text -/
theorem v_xget (F : Fx w G cc own nL rt rm) {idx : Nat} {C n ds : String} {a : Int} {v : MV} (hd : decode cc pc = .ok (.getfield idx, 3)) (ha : a < 0) (hq : Cond.fieldLink own idx C n ds ∈ lw_all) (hO : va_OF C n ds (eV w v) (w.2.1 a) (fun q => w.1.size ≤ q) G.2.2.2.1 w.1) (hc : cn v) (kk : V w l X G Q d m kc ks (pc + 3) L (v :: S)) : V w l X G Q d m kc ks pc L (mA a :: S) := by
  intro hv hx hl hs H locs lsR hH hlo hL
  obtain ⟨cf, k, fi, f, cell, h1, h2, h3, h4, h5, h6⟩ := hO
  have h := kk hv hx hl ⟨hc, hs.2⟩ H locs lsR hH hlo hL
  show W _ _ _ _ _ _ _ _ _ _ _ _ _ _ _ (F0 _ pc lsR (eR w a :: _))
  rw [eR_old ha]
  exact W.getf F.1 F.2.1 F.2.2.2.1 (F.2.2.2.2.1 _ hq) h1 h2 (hH.old h3) h4 h5 rfl rfl hd h
/-- a run of an array becomes a run of a constant one -/
theorem v_copyX (F : Fx w G cc own nL rt rm) {idx : Nat} {a b i j n la lb : Int} {f : List Int} (hd : decode cc pc = .ok (.invokestatic idx, 3)) (hq : CA own idx) (ha : a < 0) (hT : va_T .int (w.2.1 a) la.toNat (fun j => .int (Int32.ofInt (f.getD j 0))) (fun q => w.1.size ≤ q) G.2.2.2.1 w.1) (hf : ∀ k, in32 (f.getD k 0)) (hb : AR m b 101 lb)
    (hi : 0 ≤ i ∧ 0 ≤ j ∧ 0 ≤ n ∧ i + n ≤ la ∧ j + n ≤ lb) (hr : (Nat.ble 1 rm.frames && Nat.ble (cat_ S + (nativeFrameWords "java/lang/System" "arraycopy" 5 + 11)) rm.locals) = true)
    (kk : V w l WF G Q (cxD d f i b j n) m kc ks (pc + 3) L S) : V w l WF G Q d m kc ks pc L (mI n :: mI j :: mA b :: mI i :: mA a :: S) := by
  intro hv hx hl hs H locs lsR hH hlo hL
  simp only [Bool.and_eq_true] at hr
  obtain ⟨c1, c2, c3, c4, c5, c6⟩ := hs
  obtain ⟨cell, g1, g2, g3, g4, g5, g6, g7⟩ := hT
  have h1 := hH.cell hv hb (by omega)
  have hel2 : ∀ y, 0 ≤ y → y < lb → cT (k_el ((101 : Nat) : Int)) (d b y) := fun y g1 g2 => hv.el hb (by omega) ⟨g1, g2⟩
  have hn1 : ∀ z : Int, in32 z → 0 ≤ z → ¬ Int32.ofInt z < 0 := fun z hz h q => by have := (i32_lt hz in32_0).mp q; omega
  show W _ _ _ _ _ _ _ _ _ _ _ _ _ _ _ (F0 _ pc lsR (.int (Int32.ofInt n) :: .int (Int32.ofInt j) :: eR w b :: .int (Int32.ofInt i) :: eR w a :: _))
  rw [eR_old ha, eR_pos hb.1]
  refine W.copyG (mk := fun x => .int (Int32.ofInt x)) (f := fun j => f.getD j 0) (g := fun j => d b j) (n0 := la.toNat) (n1 := lb.toNat) (ty := .int) F.1 F.2.1 hL.1.symm F.2.2.2.1 (F.2.2.2.2.1 _ hq.1) (F.2.2.2.2.1 _ hq.2.1) (F.2.2.2.2.1 _ hq.2.2.1) (F.2.2.2.2.1 _ hq.2.2.2) (hH.old g1) g2 g3 g4 g6 h1 (KU.ar F.2.2.2.2.2.1 (t := 101) rfl) rfl
    (hn1 i c4 hi.1) (hn1 j c2 hi.2.1) (hn1 n c1 hi.2.2.1) (by rw [i32_cl c4, i32_cl c1]; omega) (by rw [i32_cl c2, i32_cl c1]; omega)
    (fun q hq => ⟨rfl, fun z h => by cases h⟩)
    (by rw [F.2.2.2.2.2.2.2.2]; exact Nat.le_of_ble_eq_true hr.1) (by rw [F.2.2.2.2.2.2.2.2, cat_ok]; exact Nat.le_of_ble_eq_true hr.2) hd ?_
  intro H1 Lc hLc e1 e2 e3
  have hne : ∀ x y, x ≠ b → cxD d f i b j n x y = d x y := fun x y h => by unfold cxD; rw [if_neg (fun q => h q.1)]
  refine kk (hv.row hb (by omega) hne (fun y y1 y2 => ?_)) (hx.row hb (by omega) rfl rfl hne) hl c6 H1 _ lsR (hH.row hb (by omega) hne ?_ e2 e3) (fun q hq => ?_) hL
  · unfold cxD
    split
    · exact hf _
    · exact hel2 y y1 y2
  · rw [e1]
    congr 2
    funext z
    show _ = Value.int (Int32.ofInt _)
    unfold cxD va_cpy
    rw [i32_cl c1, i32_cl c2, i32_cl c4]
    by_cases hz : j.toNat ≤ z ∧ z < j.toNat + n.toNat
    · rw [if_pos hz, if_pos (by omega)]
      congr 3
      omega
    · rw [if_neg hz, if_neg (by omega)]
  · rcases List.mem_append.mp hq with h | h
    · exact hlo q h
    · rw [hLc q h, fA_pos hb.1]; omega
/-- a reference goes into an array -/
theorem v_aast (F : Fx w G cc own nL rt rm) {a i n x : Int} {t c : Nat} {C : String} {T : u_T} {N : Nat} (hd : decode cc pc = .ok (.aastore, 1)) (ho : AR m a t n) (ht : 100 < t) (hel : k_el t = .object C) (hcl : k_cl[c]? = some (C, T, N)) (hk : (k_tys w)[t - 101]? = some (w.2.2.2.2.1 t, k_el t)) (hno : elT t = false) (htg : k_tg (k_el t) = (c : Int) + 1) (hp : PB m x c) (hc : c < 20) (hi : 0 ≤ i ∧ i < n)
    (kk : V w l WF G Q (st d a i x) m kc ks (pc + 1) L S) : V w l WF G Q d m kc ks pc L (mA x :: mI i :: mA a :: S) := by
  intro hv hx hl hs H locs lsR hH hlo hL
  have hO := hp.ob hx hc
  have h0 := hH.cell hv ho ht
  obtain ⟨cell, z1, z2, z3, z4⟩ := (hH.2.2 x hO.1 (hv.lt (by rw [hO.2]; omega))).1 c hO.2 hc
  have hcls := (F.2.2.2.2.2.1.1.1 c _ hcl).2
  have hra := (F.2.2.2.2.2.1.1.2 _ _ hk).2
  simp only [hel] at hra
  obtain ⟨kA, comp, k1, k2, k3, -⟩ := hra
  have hcomp : comp = w.2.2.1 c := Option.some.inj (k3.symm.trans hcls.1)
  subst hcomp
  obtain ⟨kC, hkC, -⟩ := hcls.2
  show W _ _ _ _ _ _ _ _ _ _ _ _ _ _ _ (F0 _ pc lsR (eR w x :: .int (Int32.ofInt i) :: eR w a :: _))
  rw [eR_pos hO.1, eR_pos ho.1]
  have hin := in_ok hs.2.1 hi
  refine W.aast F.1 F.2.1 h0 (fun q h => by cases h) (fun h => by cases h) k1 k2 rfl hkC ⟨fun h => hin (Or.inl h), by rw [arrV_size]; exact Nat.not_le.mp fun h => hin (Or.inr h)⟩ z1 (fun q h => by rw [z3] at h; cases h) (by rw [z2]; exact hkC) (by rw [z2]; exact va_assign hcls) rfl rfl hd fun H' e1 e2 e3 => ?_
  refine kk (hv.sta ho ht (by rw [hel]; trivial)) (hx.sta ho ht hno (fun _ => by rw [htg]; exact Or.inr hp)) hl hs.2.2.2 H' _ lsR (hH.sta ho ht hi.1 ?_ e2 e3) (fun q hq => ?_) hL
  · rw [i32_cl hs.2.1] at e1
    rw [e1, ho.2.2]
    have e : eT w (k_el t) x = .ref (fA w x) := by rw [hel]; exact eR_pos hO.1
    rw [e]
  · rcases List.mem_append.mp hq with h | h
    · exact hlo q h
    · rw [List.mem_singleton.mp h]
      show w.1.size ≤ fA w a
      rw [fA_pos ho.1]; omega
end VX
