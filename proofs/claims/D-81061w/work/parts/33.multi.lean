/-! LEVEL 1: arrays of arrays, the constructor of Object -/
theorem cell_eq {x y : Cell} (h1 : x.cls = y.cls) (h2 : x.slots = y.slots) (h3 : x.vm = y.vm) (h4 : x.monitor = y.monitor) (h5 : x.hash = y.hash) : x = y := by
  cases x
  cases y
  simp_all
theorem outer_mh (c : ClassId) (N h : Nat) : ∀ i, (Jvm.Free.Multi.outerC c N h i).monitor = (arrV c N (fun _ => .null)).monitor ∧ (Jvm.Free.Multi.outerC c N h i).hash = (arrV c N (fun _ => .null)).hash
  | 0 => ⟨rfl, rfl⟩
  | i + 1 => outer_mh c N h i
theorem arrV_ext {c : ClassId} {N : Nat} {f g : Nat → Value} (h : ∀ j, j < N → f j = g j) : arrV c N f = arrV c N g := by
  refine cell_eq rfl (Array.ext_getElem? fun j => ?_) rfl rfl rfl
  by_cases hj : j < N
  · rw [arrV_read _ _ hj, arrV_read _ _ hj, h j hj]
  · rw [Array.getElem?_eq_none (by rw [arrV_size]; omega), Array.getElem?_eq_none (by rw [arrV_size]; omega)]
theorem outer_arrV (c : ClassId) (N h : Nat) : Jvm.Free.Multi.outerC c N h N = arrV c N (fun j => .ref (h + 1 + j)) := by
  obtain ⟨o1, o2, o3⟩ := Jvm.Free.Multi.outerC_facts c N h N
  refine cell_eq o1 ?_ o2 (outer_mh c N h N).1 (outer_mh c N h N).2
  refine Array.ext_getElem? fun j => ?_
  by_cases hj : j < N
  · rw [Jvm.Free.Multi.outerC_slot c N h N j hj, if_pos hj, arrV_read _ _ hj]
  · rw [Array.getElem?_eq_none (by rw [o3]; omega), Array.getElem?_eq_none (by rw [arrV_size]; omega)]
theorem W.multi {p : Program} {l : Launch} {e : Env} {R : Room} {s : State} {m : MethodId} {args : Array Value} {below : List Frame} {meth : Method} {c : Code} {H : Heap} {locs : List Loc} {cells slots pc : Nat} {Q : State → Prop} {ls : Array Slot} {rest : List Value} {cc : ByteArray}
    (hexec : p.tables.exec = Jvm.exec) (hb : c.code = cc) {own : String} {index : Nat} {ty : FieldType} (hown : s.vm.findClass own = some m.cls) (hclink : (Cond.classLink own index ("[" ++ (FieldType.array ty).toString)).before args s = true) (hover : (Cond.arrayOver (.array ty)).before args s = true) (harr : (Cond.arrayClass ty).before args s = true)
    (hdg : decode cc pc = .ok (.multianewarray index 2, 4)) {n k : Int32} {N K : Nat} (hN : n.toNatClampNeg = N) (hK : k.toNatClampNeg = K) (hn : ¬ n < 0) (hk : ¬ k < 0) (hb1 : N * 4 ≤ 536870912) (hb2 : K * componentBytes ty ≤ 536870912) (hb3 : K ≤ 536870912) (hdf : fits ty (defaultValue ty) = true) (hdd : (defaultValue ty).isDefault = true) (hcells : cells + (1 + N) ≤ R.cells) (hslots : slots + (N + N * K) ≤ R.slots)
    (kk : ∀ (cA comp : ClassId) (H' : Heap), s.vm.findClass ("[" ++ (FieldType.array ty).toString) = some cA → s.vm.findClass (FieldType.array ty).toString = some comp → H'.size = H.size + 1 + N → H'[H.size]? = some (arrV cA N (fun j => .ref (H.size + 1 + j))) → (∀ j, j < N → H'[H.size + 1 + j]? = some (arrV comp K (fun _ => defaultValue ty))) → (∀ q, q < H.size → H'[q]? = H[q]?) →
      W p l e R s m args below meth c H' locs (cells + 1 + N) (slots + N + N * K) Q (F0 m (pc + 4) ls (.ref H.size :: rest))) : W p l e R s m args below meth c H locs cells slots Q (F0 m pc ls (.int k :: .int n :: rest)) := by
  intro T hT X
  subst hT; subst hb; subst hN; subst hK
  obtain ⟨vm₁, cA, comp, hW, hfA, hfC, hO, hI, X1, st⟩ := X.multianewarray2F (g := F0 m pc ls (.int k :: .int n :: rest)) hexec hown hclink hover harr rfl hdg rfl hn hk hb1 hb2 hb3 hdf hdd hcells hslots
  obtain ⟨f1, f2, f3, f4⟩ := Jvm.Free.Multi.fill_facts (T.setVm vm₁) cA comp n.toNatClampNeg k.toNatClampNeg (defaultValue ty) n.toNatClampNeg
  obtain ⟨t, a1, b1⟩ := kk cA comp _ hfA hfC f1 (f2.trans (by rw [outer_arrV]; rfl)) (fun j hj => (Jvm.Free.Multi.fill_inner (T.setVm vm₁) cA comp n.toNatClampNeg k.toNatClampNeg (defaultValue ty) n.toNatClampNeg j hj).trans (by rw [← arrV_new]; rfl)) (fun a ha => Jvm.Free.Multi.fill_old (T.setVm vm₁) cA comp n.toNatClampNeg k.toNatClampNeg (defaultValue ty) (a := a) ha n.toNatClampNeg) _ rfl X1
  exact ⟨t, st t a1, b1⟩
def mlt (m : Dt) (t n t2 n2 : Int) : Dt := fun x j => if x = m 0 0 then (if j = 1 then t else if j = 2 then n else 0) else if m 0 0 < x ∧ x ≤ m 0 0 + n then (if j = 1 then t2 else if j = 2 then n2 else 0) else if x = 0 ∧ j = 0 then m 0 0 + n + 1 else m x j
def mlD (d : Dt) (a n : Int) : Dt := fun x y => if x = a ∧ 0 ≤ y ∧ y < n then a + 1 + y else d x y
section ML
variable {m : Dt} {t n t2 n2 : Int}
theorem mlt_next (h : 1 ≤ m 0 0) : mlt m t n t2 n2 0 0 = m 0 0 + n + 1 := by
  unfold mlt
  rw [if_neg (by omega), if_neg (by omega), if_pos ⟨rfl, rfl⟩]
theorem mlt_old {x j : Int} (h1 : x < m 0 0 ∨ m 0 0 + n < x) (hn : 0 ≤ n) (h2 : ¬ (x = 0 ∧ j = 0)) : mlt m t n t2 n2 x j = m x j := by
  unfold mlt
  rw [if_neg (by omega), if_neg (by omega), if_neg h2]
theorem mlt_a1 : mlt m t n t2 n2 (m 0 0) 1 = t := by
  unfold mlt
  rw [if_pos rfl, if_pos rfl]
theorem mlt_a2 : mlt m t n t2 n2 (m 0 0) 2 = n := by
  unfold mlt
  rw [if_pos rfl, if_neg (by decide), if_pos rfl]
theorem mlt_b1 {x : Int} (h : m 0 0 < x ∧ x ≤ m 0 0 + n) : mlt m t n t2 n2 x 1 = t2 := by
  unfold mlt
  rw [if_neg (by omega), if_pos h, if_pos rfl]
theorem mlt_b2 {x : Int} (h : m 0 0 < x ∧ x ≤ m 0 0 + n) : mlt m t n t2 n2 x 2 = n2 := by
  unfold mlt
  rw [if_neg (by omega), if_pos h, if_neg (by decide), if_pos rfl]
theorem mlD_ne {d : Dt} {a n x y : Int} (h : x ≠ a) : mlD d a n x y = d x y := by
  unfold mlD
  rw [if_neg (fun q => h q.1)]
theorem mlD_in {d : Dt} {a n y : Int} (h : 0 ≤ y ∧ y < n) : mlD d a n a y = a + 1 + y := by
  unfold mlD
  rw [if_pos ⟨rfl, h⟩]
end ML
theorem VT.multi {w : Wd} {d m : Dt} (hv : VT w d m) {t t2 : Nat} {n n2 : Int} {ty : FieldType} (ht : 100 < t ∧ t < 120) (ht2 : 100 < t2 ∧ t2 < 120) (hn : 0 ≤ n ∧ n ≤ 100000) (hn2 : 0 ≤ n2 ∧ n2 ≤ 100000) (hel : k_el t = .array ty) : VT w (mlD d (m 0 0) n) (mlt m t n t2 n2) := by
  obtain ⟨v1, v2, v3, v4, v5, v6⟩ := hv
  refine ⟨by rw [mlt_next v1]; omega, fun a k ha => ?_, fun a j ha => ?_, ⟨?_, ?_⟩, fun a k ha => ?_, fun a ha => ?_⟩
  · rw [mlt_next v1] at ha
    rw [mlD_ne (by omega)]
    exact v2 a k (by omega)
  · rw [mlt_next v1] at ha
    rw [mlt_old (by omega) hn.1 (by omega)]
    exact v3 a j (by omega)
  · rw [mlt_old (by omega) hn.1 (by omega)]
    exact v4.1
  · rw [mlt_old (by omega) hn.1 (by omega)]
    exact v4.2
  · rw [mlt_old (by omega) hn.1 (by omega), mlD_ne (by omega)]
    exact v5 a k ha
  · by_cases e : a = m 0 0
    · subst e
      refine ⟨fun c q1 q2 k q3 => ?_, fun t' q1 q2 => ?_⟩
      · rw [mlt_a1] at q1
        omega
      · rw [mlt_a1] at q1
        have q3 : t' = t := by omega
        subst q3
        rw [mlt_a2]
        exact ⟨ht.2, hn.1, hn.2, fun i _ _ => by rw [hel]; trivial⟩
    · by_cases e2 : m 0 0 < a ∧ a ≤ m 0 0 + n
      · refine ⟨fun c q1 q2 k q3 => ?_, fun t' q1 q2 => ?_⟩
        · rw [mlt_b1 e2] at q1
          omega
        · rw [mlt_b1 e2] at q1
          have q3 : t' = t2 := by omega
          subst q3
          rw [mlt_b2 e2]
          exact ⟨ht2.2, hn2.1, hn2.2, fun i _ _ => by rw [mlD_ne e, v2 _ _ (by omega)]; exact cT_0 _⟩
      · have g : ∀ j, mlt m t n t2 n2 a j = m a j := fun j => mlt_old (by omega) hn.1 (by omega)
        have gd : ∀ j, mlD d (m 0 0) n a j = d a j := fun j => mlD_ne e
        rw [g 1, g 2]
        simp only [gd]
        exact v6 a ha
theorem RH.multi {w : Wd} {d m : Dt} {H H' : Heap} (hH : RH w d m H) (hv : VT w d m) {t t2 : Nat} {n n2 : Int} {ty : FieldType} (ht : 100 < t ∧ t < 120) (ht2 : 100 < t2 ∧ t2 < 120) (hn : 0 ≤ n ∧ n ≤ 100000) (hel : k_el t = .array ty) (hel2 : k_el t2 = ty) (hok : okT ty = true) (z : H'.size = H.size + 1 + n.toNat) (o1 : H'[H.size]? = some (arrV (w.2.2.2.2.1 t) n.toNat (fun j => .ref (H.size + 1 + j)))) (o2 : ∀ j, j < n.toNat → H'[H.size + 1 + j]? = some (arrV (w.2.2.2.2.1 t2) n2.toNat (fun _ => defaultValue ty))) (o : ∀ q, q < H.size → H'[q]? = H[q]?) : RH w (mlD d (m 0 0) n) (mlt m t n t2 n2) H' := by
  have v1 := hv.1
  have hz := hH.sz hv
  obtain ⟨h1, h2, h3⟩ := hH
  refine ⟨by rw [z, h1, mlt_next v1]; omega, fun q hq => (o q (by omega)).trans (h2 q hq), fun a ha hl => ?_⟩
  rw [mlt_next v1] at hl
  by_cases e : a = m 0 0
  · subst e
    refine ⟨fun c q1 q2 => ?_, fun t' q1 q2 => ?_⟩
    · rw [mlt_a1] at q1
      omega
    · rw [mlt_a1] at q1
      have q3 : t' = t := by omega
      subst q3
      rw [mlt_a2, hz, o1, hel]
      refine congrArg some (arrV_ext fun j hj => ?_)
      rw [mlD_in (by omega)]
      show _ = eR w _
      rw [eR_pos (by omega)]
      unfold fA
      rw [if_pos (by omega)]
      have q4 : H.size + 1 + j = w.1.size + (m 0 0 + 1 + (j : Int) - 1).toNat := by
        rw [h1]
        clear o1 o2 o z q1 hz h1 h2 h3
        omega
      rw [q4]
  · by_cases e2 : m 0 0 < a ∧ a ≤ m 0 0 + n
    · refine ⟨fun c q1 q2 => ?_, fun t' q1 q2 => ?_⟩
      · rw [mlt_b1 e2] at q1
        omega
      · rw [mlt_b1 e2] at q1
        have q3 : t' = t2 := by omega
        subst q3
        have hq : fA w a = H.size + 1 + (a - m 0 0 - 1).toNat := by
          unfold fA
          rw [if_pos ha, h1]
          omega
        rw [mlt_b2 e2, hq, o2 _ (by omega), hel2]
        refine congrArg some (arrV_ext fun j hj => ?_)
        rw [mlD_ne e, hv.2.1 _ _ (by omega), eT_0 w hok]
    · have g : ∀ j, mlt m t n t2 n2 a j = m a j := fun j => mlt_old (by omega) hn.1 (by omega)
      have gd : ∀ j, mlD d (m 0 0) n a j = d a j := fun j => mlD_ne e
      have hq : fA w a < H.size := by
        unfold fA
        rw [if_pos ha, h1]
        omega
      obtain ⟨c1, c2⟩ := h3 a ha (by omega)
      refine ⟨fun c e1 e2 => ?_, fun t' e1 e2 => ?_⟩
      · rw [g 1] at e1
        simp only [gd]
        exact (c1 c e1 e2).kept (o _ hq)
      · rw [g 1] at e1
        rw [g 2, o _ hq]
        simp only [gd]
        exact c2 t' e1 e2
section ML2
variable {w : Wd} {l : Launch} {X : Dt → Dt → Prop} {G : Cx} {Q : State → Prop} {d m : Dt} {kc ks pc nL : Nat} {L S : List MV} {cc : ByteArray} {own : String} {rt : Option FieldType} {rm : Room} {idx : Nat}
theorem v_multi (F : Fx w G cc own nL rt rm) {t t2 : Nat} {n n2 : Int} {ty : FieldType} (hd : decode cc pc = .ok (.multianewarray idx 2, 4)) (hel : k_el t = .array ty) (hel2 : k_el t2 = ty) (ht : 100 < t ∧ t < 120) (ht2 : 100 < t2 ∧ t2 < 120) (hk : (k_tys w)[t - 101]? = some (w.2.2.2.2.1 t, .array ty)) (hk2 : (k_tys w)[t2 - 101]? = some (w.2.2.2.2.1 t2, ty)) (hra : ∀ U cA, va_RA U cA ty = (U.vm.findClass ("[" ++ ty.toString) = some cA)) (hok : okT ty = true) (hb : componentBytes ty ≤ 8) (hdf : fits ty (defaultValue ty) = true) (hdd : (defaultValue ty).isDefault = true)
    (h1 : Cond.classLink own idx ("[" ++ (FieldType.array ty).toString) ∈ lw_all) (h2 : Cond.arrayOver (.array ty) ∈ lw_tbl) (h3 : Cond.arrayClass ty ∈ lw_all) (hts : (FieldType.array ty).toString = "[" ++ ty.toString) (hn : 0 ≤ n ∧ n ≤ 100000) (hn2 : 0 ≤ n2 ∧ n2 ≤ 100000)
    (hX : VT w d m → X d m → X (mlD d (m 0 0) n) (mlt m t n t2 n2)) {kc' ks' : Nat} (hkc : kc + 1 + n.toNat = kc') (r1 : kc' ≤ rm.cells) (hks : ks + n.toNat + n.toNat * n2.toNat = ks') (r2 : ks' ≤ rm.slots) {a : Int} (ha : m 0 0 = a) (kk : V w l X G Q (mlD d (m 0 0) n) (mlt m t n t2 n2) kc' ks' (pc + 4) L (mA a :: S)) : V w l X G Q d m kc ks pc L (mI n2 :: mI n :: S) := by
  intro hv hx hl hs H locs lsR hH hlo hL
  subst hkc
  subst hks
  obtain ⟨f1, f2, f3, f4, f5, f6, f7, f8, f9⟩ := F
  have hz := hH.sz hv
  have v1 := hv.1
  have e0 : ∀ n : Int, 0 ≤ n ∧ n ≤ 100000 → (Int32.ofInt n).toNatClampNeg = n.toNat := fun n hn => by
    rw [← Int32.toNat_toInt, Int32.toInt_ofInt_of_le (by omega) (by omega)]
  have e1 : ∀ n : Int, 0 ≤ n ∧ n ≤ 100000 → ¬ Int32.ofInt n < 0 := fun n hn => by
    rw [Int32.lt_iff_toInt_lt, Int32.toInt_ofInt_of_le (by omega) (by omega)]
    show ¬ n < 0
    omega
  have hov : (Cond.arrayOver (.array ty)).before G.2.2.2.2.2.1 G.2.2.2.1 = true := f6.2.1 _ (List.mem_filter.mpr ⟨h2, rfl⟩)
  refine W.multi f1 f2 f4 (f5 _ h1) hov (f5 _ h3) hd (e0 n hn) (e0 n2 hn2) (e1 n hn) (e1 n2 hn2) (by omega) (by
    have := Nat.mul_le_mul (show n2.toNat ≤ 100000 by omega) hb
    omega) (by omega) hdf hdd (by rw [f9]; omega) (by rw [f9]; omega) fun cA comp H1 q1 q2 z1 o1 o2 o => ?_
  have hcA : cA = w.2.2.2.2.1 t := Option.some.inj (q1.symm.trans (f6.1.2 _ _ hk).2)
  have hcB : comp = w.2.2.2.2.1 t2 := by
    have q := (f6.1.2 _ _ hk2).2
    rw [hra, ← hts] at q
    exact Option.some.inj (q2.symm.trans q)
  subst hcA
  subst hcB
  have h := kk (hv.multi ht ht2 hn hn2 hel) (hX hv hx) hl ⟨trivial, hs.2.2⟩ H1 locs lsR (hH.multi hv ht ht2 hn hel hel2 hok z1 o1 o2 o) hlo hL
  have he : ((mA a :: S).map (eV w)) = Value.ref H.size :: S.map (eV w) := by
    show eR w a :: _ = _
    rw [← ha, eR_pos (by omega), hz]
  rw [he] at h
  exact h
theorem v_objI (F : Fx w G cc own nL rt rm) {a : Int} (ha : 0 < a) (hd : decode cc pc = .ok (.invokespecial idx, 3)) (h1 : Cond.methodLink own idx Lib.objectInit ∈ lw_all) (h2 : Cond.instanceMethod Lib.objectInit ∈ lw_all) (h3 : Cond.code Lib.objectInit ⟨#[0xb1]⟩ 1 none ∈ lw_all) (r1 : 1 ≤ rm.frames) (r2 : 20 ≤ rm.locals) (hS : cat_ S ≤ 8) (kk : V w l X G Q d m kc ks (pc + 3) L S) : V w l X G Q d m kc ks pc L (mA a :: S) := by
  intro hv hx hl hs H locs lsR hH hlo hL
  obtain ⟨f1, f2, f3, f4, f5, f6, f7, f8, f9⟩ := F
  have h := kk hv hx hl hs.2 H locs lsR hH hlo hL
  have he : ((mA a :: S).map (eV w)) = Value.ref (fA w a) :: S.map (eV w) := by
    show eR w a :: _ = _
    rw [eR_pos ha]
  have hroom : 2 * (F0 G.2.2.2.2.1 pc lsR ((mA a :: S).map (eV w))).monitorRoom + ((S.map (eV w)).map fun v => v.category).sum ≤ 8 := lv_room (by rw [cat_ok]; exact hS)
  exact W.objInit f1 f2 f4 (f5 _ h1) (f5 _ h2) (f5 _ h3) rfl hL.1 he hd (by rw [f9]; exact r1) (by rw [f9]; omega) h
end ML2
