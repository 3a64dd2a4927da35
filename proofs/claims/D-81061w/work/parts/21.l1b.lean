/-! LEVEL 1: rows of locals and stack -/
def mGet : List MV → Nat → MV
  | [], _ => mU
  | v :: _, 0 => v
  | _ :: l, n + 1 => mGet l n
def mClr (L : List MV) : Nat → List MV
  | 0 => L
  | i + 1 => match mGet L i with
    | .inr (.inl _) => L.set i mU
    | _ => L
def mSt1 (L : List MV) (i : Nat) (v : MV) : List MV := (mClr L i).set i v
def mSt2 (L : List MV) (i : Nat) (v : MV) : List MV := ((mClr L i).set i v).set (i + 1) mU
theorem mGet_some : ∀ {L : List MV} {i : Nat} {v : MV}, mGet L i = v → v ≠ mU → L[i]? = some v
  | [], _, v, h, hv => absurd h.symm hv
  | u :: _, 0, v, h, _ => by simp only [mGet] at h; simp [h]
  | _ :: l, n + 1, v, h, hv => by simp only [mGet] at h; simpa using mGet_some (L := l) h hv
theorem mGet_of : ∀ {L : List MV} {i : Nat} {v : MV}, L[i]? = some v → mGet L i = v
  | [], i, v, h => by simp at h
  | u :: _, 0, v, h => by simpa [mGet] using h
  | _ :: l, n + 1, v, h => by simp only [mGet]; exact mGet_of (L := l) (by simpa using h)
theorem mClr_len (L : List MV) (i : Nat) : (mClr L i).length = L.length := by
  cases i with
  | zero => rfl
  | succ i =>
    simp only [mClr]
    split <;> simp
/-- what is kept: it was there, and it is no long before the place -/
theorem mClr_at {L : List MV} {i j : Nat} {u : MV} (h : (mClr L i)[j]? = some u) (hu : u ≠ mU) : L[j]? = some u ∧ ¬ (j + 1 = i ∧ ∃ x, u = mL x) := by
  cases i with
  | zero => exact ⟨h, fun q => by omega⟩
  | succ i =>
    simp only [mClr] at h
    split at h
    · rename_i x hx
      by_cases e : j = i
      · subst e
        rw [List.getElem?_set] at h
        simp only [if_true] at h
        split at h
        · exact absurd (Option.some.inj h).symm hu
        · cases h
      · rw [List.getElem?_set_ne (fun q => e q.symm)] at h
        exact ⟨h, fun q => e (by omega)⟩
    · rename_i hn
      refine ⟨h, fun q => ?_⟩
      obtain ⟨q1, x, q2⟩ := q
      have e : j = i := by omega
      subst e
      subst q2
      exact hn x (mGet_of h)
theorem eV_cat2 {w : Wd} {u : MV} (h : (eV w u).category = 2) : ∃ x, u = mL x := by
  rcases u with v | v | v | v
  · cases h
  · exact ⟨v, rfl⟩
  · simp only [eV, eR] at h
    split at h <;> cases h
  · cases h
theorem LR.st1 {w : Wd} {lsR : Array Slot} {nL : Nat} {L : List MV} (h : LR w lsR nL L) {i : Nat} (hi : i < nL) {v : MV} (hc : (eV w v).category = 1) : ∃ ls', storeLocals lsR i (eV w v) = some ls' ∧ LR w ls' nL (mSt1 L i v) := by
  obtain ⟨h1, h2, h3, h4⟩ := h
  obtain ⟨ls', e, g1, g2, g3⟩ := lv_store1 (l := []) (v := eV w v) ⟨h1, h2, fun q hq => by cases hq⟩ hi hc
  refine ⟨ls', e, g1, g2, by simp only [mSt1, List.length_set, mClr_len]; exact h3, fun j u hj hu => ?_⟩
  by_cases ej : j = i
  · subst ej
    simp only [mSt1] at hj
    rw [List.getElem?_set] at hj
    simp only [if_true] at hj
    split at hj
    · rw [← Option.some.inj hj]
      exact g3 (j, eV w v) List.mem_cons_self
    · cases hj
  · simp only [mSt1] at hj
    rw [List.getElem?_set_ne (fun q => ej q.symm)] at hj
    obtain ⟨k1, k2⟩ := mClr_at hj hu
    obtain ⟨ls2, e2, -, -, f3⟩ := lv_store1 (l := [(j, eV w u)]) (v := eV w v) ⟨h1, h2, fun q hq => by rw [List.mem_singleton.mp hq]; exact h4 j u k1 hu⟩ hi hc
    cases e.symm.trans e2
    refine f3 (j, eV w u) (List.mem_cons_of_mem _ (List.mem_filter.mpr ⟨List.mem_singleton.mpr rfl, ?_⟩))
    simp only [Bool.and_eq_true, Bool.not_eq_true', beq_eq_false_iff_ne, ne_eq, Bool.and_eq_false_imp, beq_iff_eq]
    exact ⟨ej, fun q1 q2 => k2 ⟨q1, eV_cat2 q2⟩⟩
theorem LR.st2 {w : Wd} {lsR : Array Slot} {nL : Nat} {L : List MV} (h : LR w lsR nL L) {i : Nat} (hi : i + 1 < nL) {v : MV} (hc : (eV w v).category = 2) : ∃ ls', storeLocals lsR i (eV w v) = some ls' ∧ LR w ls' nL (mSt2 L i v) := by
  obtain ⟨h1, h2, h3, h4⟩ := h
  obtain ⟨ls', e, g1, g2, g3⟩ := lv_store2 (l := []) (v := eV w v) ⟨h1, h2, fun q hq => by cases hq⟩ hi hc
  refine ⟨ls', e, g1, g2, by simp only [mSt2, List.length_set, mClr_len]; exact h3, fun j u hj hu => ?_⟩
  simp only [mSt2] at hj
  by_cases e1 : j = i + 1
  · subst e1
    rw [List.getElem?_set] at hj
    simp only [if_true] at hj
    split at hj
    · exact absurd (Option.some.inj hj).symm hu
    · cases hj
  · rw [List.getElem?_set_ne (fun q => e1 q.symm)] at hj
    by_cases ej : j = i
    · subst ej
      rw [List.getElem?_set] at hj
      simp only [if_true] at hj
      split at hj
      · rw [← Option.some.inj hj]
        exact g3 (j, eV w v) List.mem_cons_self
      · cases hj
    · rw [List.getElem?_set_ne (fun q => ej q.symm)] at hj
      obtain ⟨k1, k2⟩ := mClr_at hj hu
      obtain ⟨ls2, e2, -, -, f3⟩ := lv_store2 (l := [(j, eV w u)]) (v := eV w v) ⟨h1, h2, fun q hq => by rw [List.mem_singleton.mp hq]; exact h4 j u k1 hu⟩ hi hc
      cases e.symm.trans e2
      refine f3 (j, eV w u) (List.mem_cons_of_mem _ (List.mem_filter.mpr ⟨List.mem_singleton.mpr rfl, ?_⟩))
      simp only [Bool.and_eq_true, Bool.not_eq_true', beq_eq_false_iff_ne, ne_eq, Bool.and_eq_false_imp, beq_iff_eq]
      exact ⟨ej, e1, fun q1 q2 => k2 ⟨q1, eV_cat2 q2⟩⟩
theorem LR.get {w : Wd} {lsR : Array Slot} {nL : Nat} {L : List MV} (h : LR w lsR nL L) {i : Nat} {v : MV} (hi : mGet L i = v) (hv : v ≠ mU) : lsR[i]? = some (.val (eV w v)) := h.2.2.2 i v (mGet_some hi hv) hv
theorem cns_set : ∀ {L : List MV} {i : Nat} {v : MV}, cns L → cn v → cns (L.set i v)
  | [], _, _, h, _ => h
  | _ :: _, 0, _, h, hv => ⟨hv, h.2⟩
  | _ :: _, _ + 1, _, h, hv => ⟨h.1, cns_set h.2 hv⟩
theorem cns_clr {L : List MV} {i : Nat} (h : cns L) : cns (mClr L i) := by
  cases i with
  | zero => exact h
  | succ i =>
    simp only [mClr]
    split
    · exact cns_set h trivial
    · exact h
theorem cns_st1 {L : List MV} {i : Nat} {v : MV} (h : cns L) (hv : cn v) : cns (mSt1 L i v) := cns_set (cns_clr h) hv
theorem cns_st2 {L : List MV} {i : Nat} {v : MV} (h : cns L) (hv : cn v) : cns (mSt2 L i v) := cns_set (cns_set (cns_clr h) hv) trivial
theorem cns_get : ∀ {L : List MV} {i : Nat}, cns L → cn (mGet L i)
  | [], _, _ => trivial
  | _ :: _, 0, h => h.1
  | _ :: l, _ + 1, h => cns_get (L := l) h.2
theorem eR_ref {w : Wd} {v : Int} : eR w v = .null ∨ eR w v = .ref (fA w v) := by
  unfold eR
  split
  · exact Or.inl rfl
  · exact Or.inr rfl
theorem eR_cat (w : Wd) (v : Int) : (eR w v).category = 1 := by
  rcases @eR_ref w v with h | h <;> rw [h] <;> rfl
theorem eR_isRef (w : Wd) (v : Int) : (eR w v).isRef = true := by
  rcases @eR_ref w v with h | h <;> rw [h] <;> rfl
section WS
variable {p : Program} {l : Launch} {e : Env} {R : Room} {s : State} {m : MethodId} {args : Array Value} {below : List Frame} {meth : Method} {c : Code} {H : Heap} {locs : List Loc} {cells slots : Nat} {Q : State → Prop}
variable {cc : ByteArray} {pc : Nat} {ls ls' : Array Slot} {rest : List Value}
theorem ws_istore_n (hexec : p.tables.exec = Jvm.exec) (hb : c.code = cc) {k : Fin 4} {v : Value} (hdg : decode cc pc = .ok (.istore_n k, 1)) (e' : storeLocals ls (k : Nat) v = some ls') (hv : ∃ x, v = .int x) (kk : W p l e R s m args below meth c H locs cells slots Q (F0 m (pc + 1) ls' rest)) : W p l e R s m args below meth c H locs cells slots Q (F0 m pc ls (v :: rest)) := by
  intro T hT X
  obtain ⟨t, a, b⟩ := kk T hT X
  refine ⟨t, ?_, b⟩
  obtain ⟨x, rfl⟩ := hv
  jvm_step X.here [X.here.top, ↓top_set X.here.top, hexec, hb, hdg, e']
  exact a
theorem ws_istore (hexec : p.tables.exec = Jvm.exec) (hb : c.code = cc) {k : Nat} {v : Value} (hdg : decode cc pc = .ok (.istore k, 2)) (e' : storeLocals ls k v = some ls') (hv : ∃ x, v = .int x) (kk : W p l e R s m args below meth c H locs cells slots Q (F0 m (pc + 2) ls' rest)) : W p l e R s m args below meth c H locs cells slots Q (F0 m pc ls (v :: rest)) := by
  intro T hT X
  obtain ⟨t, a, b⟩ := kk T hT X
  refine ⟨t, ?_, b⟩
  obtain ⟨x, rfl⟩ := hv
  jvm_step X.here [X.here.top, ↓top_set X.here.top, hexec, hb, hdg, e']
  exact a
theorem ws_lstore_n (hexec : p.tables.exec = Jvm.exec) (hb : c.code = cc) {k : Fin 4} {v : Value} (hdg : decode cc pc = .ok (.lstore_n k, 1)) (e' : storeLocals ls (k : Nat) v = some ls') (hv : ∃ x, v = .long x) (kk : W p l e R s m args below meth c H locs cells slots Q (F0 m (pc + 1) ls' rest)) : W p l e R s m args below meth c H locs cells slots Q (F0 m pc ls (v :: rest)) := by
  intro T hT X
  obtain ⟨t, a, b⟩ := kk T hT X
  refine ⟨t, ?_, b⟩
  obtain ⟨x, rfl⟩ := hv
  jvm_step X.here [X.here.top, ↓top_set X.here.top, hexec, hb, hdg, e']
  exact a
theorem ws_lstore (hexec : p.tables.exec = Jvm.exec) (hb : c.code = cc) {k : Nat} {v : Value} (hdg : decode cc pc = .ok (.lstore k, 2)) (e' : storeLocals ls k v = some ls') (hv : ∃ x, v = .long x) (kk : W p l e R s m args below meth c H locs cells slots Q (F0 m (pc + 2) ls' rest)) : W p l e R s m args below meth c H locs cells slots Q (F0 m pc ls (v :: rest)) := by
  intro T hT X
  obtain ⟨t, a, b⟩ := kk T hT X
  refine ⟨t, ?_, b⟩
  obtain ⟨x, rfl⟩ := hv
  jvm_step X.here [X.here.top, ↓top_set X.here.top, hexec, hb, hdg, e']
  exact a
theorem ws_astore_n (hexec : p.tables.exec = Jvm.exec) (hb : c.code = cc) {k : Fin 4} {v : Value} (hdg : decode cc pc = .ok (.astore_n k, 1)) (e' : storeLocals ls (k : Nat) v = some ls') (hv : v = .null ∨ ∃ x, v = .ref x) (kk : W p l e R s m args below meth c H locs cells slots Q (F0 m (pc + 1) ls' rest)) : W p l e R s m args below meth c H locs cells slots Q (F0 m pc ls (v :: rest)) := by
  intro T hT X
  obtain ⟨t, a, b⟩ := kk T hT X
  refine ⟨t, ?_, b⟩
  rcases hv with rfl | ⟨x, rfl⟩
  · jvm_step X.here [X.here.top, ↓top_set X.here.top, hexec, hb, hdg, e', Value.isRef]
    exact a
  · jvm_step X.here [X.here.top, ↓top_set X.here.top, hexec, hb, hdg, e', Value.isRef]
    exact a
theorem ws_astore (hexec : p.tables.exec = Jvm.exec) (hb : c.code = cc) {k : Nat} {v : Value} (hdg : decode cc pc = .ok (.astore k, 2)) (e' : storeLocals ls k v = some ls') (hv : v = .null ∨ ∃ x, v = .ref x) (kk : W p l e R s m args below meth c H locs cells slots Q (F0 m (pc + 2) ls' rest)) : W p l e R s m args below meth c H locs cells slots Q (F0 m pc ls (v :: rest)) := by
  intro T hT X
  obtain ⟨t, a, b⟩ := kk T hT X
  refine ⟨t, ?_, b⟩
  rcases hv with rfl | ⟨x, rfl⟩
  · jvm_step X.here [X.here.top, ↓top_set X.here.top, hexec, hb, hdg, e', Value.isRef]
    exact a
  · jvm_step X.here [X.here.top, ↓top_set X.here.top, hexec, hb, hdg, e', Value.isRef]
    exact a
theorem ws_iinc (hexec : p.tables.exec = Jvm.exec) (hb : c.code = cc) {i : Nat} {n : Int} {x : Int32} (hdg : decode cc pc = .ok (.iinc i n, 3)) (hg : ls[i]? = some (.val (.int x))) (e' : storeLocals ls i (.int (x + Int32.ofInt n)) = some ls') (kk : W p l e R s m args below meth c H locs cells slots Q (F0 m (pc + 3) ls' rest)) : W p l e R s m args below meth c H locs cells slots Q (F0 m pc ls rest) := by
  intro T hT X
  obtain ⟨t, a, b⟩ := kk T hT X
  refine ⟨t, ?_, b⟩
  jvm_step X.here [X.here.top, ↓top_set X.here.top, hexec, hb, hdg, hg, e']
  exact a
end WS
section VR
variable {w : Wd} {l : Launch} {X : Dt → Dt → Prop} {G : Cx} {Q : State → Prop} {d m : Dt} {kc ks pc nL : Nat} {L S : List MV} {cc : ByteArray} {own : String} {rt : Option FieldType} {rm : Room}
theorem v_iconst (F : Fx w G cc own nL rt rm) {n : Int} (hd : decode cc pc = .ok (.iconst n, 1)) (hn : in32 n) (k : V w l X G Q d m kc ks (pc + 1) L (mI n :: S)) : V w l X G Q d m kc ks pc L S := by
  intro hv hx hl hs H locs lsR hH hlo hL
  exact lv_iconst F.1 F.2.1 hd rfl (k hv hx hl ⟨hn, hs⟩ H locs lsR hH hlo hL)
theorem v_bipush (F : Fx w G cc own nL rt rm) {n : Int} (hd : decode cc pc = .ok (.bipush n, 2)) (hn : (Int8.ofInt n).toInt32 = Int32.ofInt n) (hi : in32 n) (k : V w l X G Q d m kc ks (pc + 2) L (mI n :: S)) : V w l X G Q d m kc ks pc L S := by
  intro hv hx hl hs H locs lsR hH hlo hL
  exact lv_bipush F.1 F.2.1 hd hn (k hv hx hl ⟨hi, hs⟩ H locs lsR hH hlo hL)
theorem v_sipush (F : Fx w G cc own nL rt rm) {n : Int} (hd : decode cc pc = .ok (.sipush n, 3)) (hn : (Int16.ofInt n).toInt32 = Int32.ofInt n) (hi : in32 n) (k : V w l X G Q d m kc ks (pc + 3) L (mI n :: S)) : V w l X G Q d m kc ks pc L S := by
  intro hv hx hl hs H locs lsR hH hlo hL
  exact lv_sipush F.1 F.2.1 hd hn (k hv hx hl ⟨hi, hs⟩ H locs lsR hH hlo hL)
theorem v_lconst0 (F : Fx w G cc own nL rt rm) (hd : decode cc pc = .ok (.lconst 0, 1)) (k : V w l X G Q d m kc ks (pc + 1) L (mL 0 :: S)) : V w l X G Q d m kc ks pc L S := by
  intro hv hx hl hs H locs lsR hH hlo hL
  exact lv_lconst F.1 F.2.1 hd rfl (k hv hx hl ⟨by unfold cn in64; omega, hs⟩ H locs lsR hH hlo hL)
theorem v_lconst1 (F : Fx w G cc own nL rt rm) (hd : decode cc pc = .ok (.lconst 1, 1)) (k : V w l X G Q d m kc ks (pc + 1) L (mL 1 :: S)) : V w l X G Q d m kc ks pc L S := by
  intro hv hx hl hs H locs lsR hH hlo hL
  exact lv_lconst F.1 F.2.1 hd rfl (k hv hx hl ⟨by unfold cn in64; omega, hs⟩ H locs lsR hH hlo hL)
theorem v_null (F : Fx w G cc own nL rt rm) (hd : decode cc pc = .ok (.aconst_null, 1)) (k : V w l X G Q d m kc ks (pc + 1) L (mA 0 :: S)) : V w l X G Q d m kc ks pc L S := by
  intro hv hx hl hs H locs lsR hH hlo hL
  exact lv_null F.1 F.2.1 hd (k hv hx hl ⟨trivial, hs⟩ H locs lsR hH hlo hL)
theorem v_ldc (F : Fx w G cc own nL rt rm) {i : Nat} {n : Int} {v : Int32} (hd : decode cc pc = .ok (.ldc i, 2)) (hq : Cond.constant own i v ∈ lw_all) (hn : v = Int32.ofInt n) (hi : in32 n) (k : V w l X G Q d m kc ks (pc + 2) L (mI n :: S)) : V w l X G Q d m kc ks pc L S := by
  intro hv hx hl hs H locs lsR hH hlo hL
  subst hn
  exact lv_ldc F.1 F.2.1 F.2.2.2.1 (F.2.2.2.2.1 _ hq) hd (k hv hx hl ⟨hi, hs⟩ H locs lsR hH hlo hL)
theorem v_ldcw (F : Fx w G cc own nL rt rm) {i : Nat} {n : Int} {v : Int32} (hd : decode cc pc = .ok (.ldc_w i, 3)) (hq : Cond.constant own i v ∈ lw_all) (hn : v = Int32.ofInt n) (hi : in32 n) (k : V w l X G Q d m kc ks (pc + 3) L (mI n :: S)) : V w l X G Q d m kc ks pc L S := by
  intro hv hx hl hs H locs lsR hH hlo hL
  subst hn
  exact lv_ldcw F.1 F.2.1 F.2.2.2.1 (F.2.2.2.2.1 _ hq) hd (k hv hx hl ⟨hi, hs⟩ H locs lsR hH hlo hL)
theorem v_ldc2 (F : Fx w G cc own nL rt rm) {i : Nat} {n : Int} {v : Int64} (hd : decode cc pc = .ok (.ldc2_w i, 3)) (hq : Cond.constantLong own i v ∈ lw_all) (hn : v = Int64.ofInt n) (hi : in64 n) (k : V w l X G Q d m kc ks (pc + 3) L (mL n :: S)) : V w l X G Q d m kc ks pc L S := by
  intro hv hx hl hs H locs lsR hH hlo hL
  subst hn
  exact lv_ldc2 F.1 F.2.1 F.2.2.2.1 (F.2.2.2.2.1 _ hq) hd (k hv hx hl ⟨hi, hs⟩ H locs lsR hH hlo hL)
theorem v_iload_n (F : Fx w G cc own nL rt rm) {k' : Fin 4} {i : Nat} {x : Int} (hd : decode cc pc = .ok (.iload_n k', 1)) (hi : (k' : Nat) = i) (hg : mGet L i = mI x) (k : V w l X G Q d m kc ks (pc + 1) L (mI x :: S)) : V w l X G Q d m kc ks pc L S := by
  intro hv hx hl hs H locs lsR hH hlo hL
  exact lv_iload_n F.1 F.2.1 hd hi (hL.get hg (fun h => by cases h)) (k hv hx hl ⟨by rw [← hg]; exact cns_get hl, hs⟩ H locs lsR hH hlo hL)
theorem v_iload (F : Fx w G cc own nL rt rm) {i : Nat} {x : Int} (hd : decode cc pc = .ok (.iload i, 2)) (hg : mGet L i = mI x) (k : V w l X G Q d m kc ks (pc + 2) L (mI x :: S)) : V w l X G Q d m kc ks pc L S := by
  intro hv hx hl hs H locs lsR hH hlo hL
  exact lv_iload F.1 F.2.1 hd (hL.get hg (fun h => by cases h)) (k hv hx hl ⟨by rw [← hg]; exact cns_get hl, hs⟩ H locs lsR hH hlo hL)
theorem v_lload_n (F : Fx w G cc own nL rt rm) {k' : Fin 4} {i : Nat} {x : Int} (hd : decode cc pc = .ok (.lload_n k', 1)) (hi : (k' : Nat) = i) (hg : mGet L i = mL x) (k : V w l X G Q d m kc ks (pc + 1) L (mL x :: S)) : V w l X G Q d m kc ks pc L S := by
  intro hv hx hl hs H locs lsR hH hlo hL
  exact lv_lload_n F.1 F.2.1 hd hi (hL.get hg (fun h => by cases h)) (k hv hx hl ⟨by rw [← hg]; exact cns_get hl, hs⟩ H locs lsR hH hlo hL)
theorem v_lload (F : Fx w G cc own nL rt rm) {i : Nat} {x : Int} (hd : decode cc pc = .ok (.lload i, 2)) (hg : mGet L i = mL x) (k : V w l X G Q d m kc ks (pc + 2) L (mL x :: S)) : V w l X G Q d m kc ks pc L S := by
  intro hv hx hl hs H locs lsR hH hlo hL
  exact lv_lload F.1 F.2.1 hd (hL.get hg (fun h => by cases h)) (k hv hx hl ⟨by rw [← hg]; exact cns_get hl, hs⟩ H locs lsR hH hlo hL)
theorem v_aload_n (F : Fx w G cc own nL rt rm) {k' : Fin 4} {i : Nat} {x : Int} (hd : decode cc pc = .ok (.aload_n k', 1)) (hi : (k' : Nat) = i) (hg : mGet L i = mA x) (k : V w l X G Q d m kc ks (pc + 1) L (mA x :: S)) : V w l X G Q d m kc ks pc L S := by
  intro hv hx hl hs H locs lsR hH hlo hL
  have h := k hv hx hl ⟨trivial, hs⟩ H locs lsR hH hlo hL
  have g := hL.get hg (fun h => by cases h)
  simp only [List.map_cons, eV] at h g
  rcases @eR_ref w x with q | q
  · rw [q] at h g
    exact lv_aload_nN F.1 F.2.1 hd hi g h
  · rw [q] at h g
    exact lv_aload_n F.1 F.2.1 hd hi g h
theorem v_aload (F : Fx w G cc own nL rt rm) {i : Nat} {x : Int} (hd : decode cc pc = .ok (.aload i, 2)) (hg : mGet L i = mA x) (k : V w l X G Q d m kc ks (pc + 2) L (mA x :: S)) : V w l X G Q d m kc ks pc L S := by
  intro hv hx hl hs H locs lsR hH hlo hL
  have h := k hv hx hl ⟨trivial, hs⟩ H locs lsR hH hlo hL
  have g := hL.get hg (fun h => by cases h)
  simp only [List.map_cons, eV] at h g
  rcases @eR_ref w x with q | q
  · rw [q] at h g
    exact lv_aloadN F.1 F.2.1 hd g h
  · rw [q] at h g
    exact lv_aload F.1 F.2.1 hd g h
theorem v_istore_n (F : Fx w G cc own nL rt rm) {k' : Fin 4} {i : Nat} {x : Int} {L' : List MV} (hd : decode cc pc = .ok (.istore_n k', 1)) (hi : (k' : Nat) = i) (hn : i < nL) (hg : mSt1 L i (mI x) = L') (k : V w l X G Q d m kc ks (pc + 1) L' S) : V w l X G Q d m kc ks pc L (mI x :: S) := by
  intro hv hx hl hs H locs lsR hH hlo hL
  subst hg
  subst hi
  obtain ⟨ls', e', h'⟩ := hL.st1 (v := mI x) (by rw [F.2.2.1]; exact hn) (rfl)
  exact ws_istore_n F.1 F.2.1 hd e' ⟨_, rfl⟩ (k hv hx (cns_st1 hl hs.1) hs.2 H locs ls' hH hlo h')
theorem v_istore (F : Fx w G cc own nL rt rm) {i : Nat} {x : Int} {L' : List MV} (hd : decode cc pc = .ok (.istore i, 2)) (hn : i < nL) (hg : mSt1 L i (mI x) = L') (k : V w l X G Q d m kc ks (pc + 2) L' S) : V w l X G Q d m kc ks pc L (mI x :: S) := by
  intro hv hx hl hs H locs lsR hH hlo hL
  subst hg
  obtain ⟨ls', e', h'⟩ := hL.st1 (v := mI x) (by rw [F.2.2.1]; exact hn) (rfl)
  exact ws_istore F.1 F.2.1 hd e' ⟨_, rfl⟩ (k hv hx (cns_st1 hl hs.1) hs.2 H locs ls' hH hlo h')
theorem v_lstore_n (F : Fx w G cc own nL rt rm) {k' : Fin 4} {i : Nat} {x : Int} {L' : List MV} (hd : decode cc pc = .ok (.lstore_n k', 1)) (hi : (k' : Nat) = i) (hn : i + 1 < nL) (hg : mSt2 L i (mL x) = L') (k : V w l X G Q d m kc ks (pc + 1) L' S) : V w l X G Q d m kc ks pc L (mL x :: S) := by
  intro hv hx hl hs H locs lsR hH hlo hL
  subst hg
  subst hi
  obtain ⟨ls', e', h'⟩ := hL.st2 (v := mL x) (by rw [F.2.2.1]; exact hn) (rfl)
  exact ws_lstore_n F.1 F.2.1 hd e' ⟨_, rfl⟩ (k hv hx (cns_st2 hl hs.1) hs.2 H locs ls' hH hlo h')
theorem v_lstore (F : Fx w G cc own nL rt rm) {i : Nat} {x : Int} {L' : List MV} (hd : decode cc pc = .ok (.lstore i, 2)) (hn : i + 1 < nL) (hg : mSt2 L i (mL x) = L') (k : V w l X G Q d m kc ks (pc + 2) L' S) : V w l X G Q d m kc ks pc L (mL x :: S) := by
  intro hv hx hl hs H locs lsR hH hlo hL
  subst hg
  obtain ⟨ls', e', h'⟩ := hL.st2 (v := mL x) (by rw [F.2.2.1]; exact hn) (rfl)
  exact ws_lstore F.1 F.2.1 hd e' ⟨_, rfl⟩ (k hv hx (cns_st2 hl hs.1) hs.2 H locs ls' hH hlo h')
theorem v_astore_n (F : Fx w G cc own nL rt rm) {k' : Fin 4} {i : Nat} {x : Int} {L' : List MV} (hd : decode cc pc = .ok (.astore_n k', 1)) (hi : (k' : Nat) = i) (hn : i < nL) (hg : mSt1 L i (mA x) = L') (k : V w l X G Q d m kc ks (pc + 1) L' S) : V w l X G Q d m kc ks pc L (mA x :: S) := by
  intro hv hx hl hs H locs lsR hH hlo hL
  subst hg
  subst hi
  obtain ⟨ls', e', h'⟩ := hL.st1 (v := mA x) (by rw [F.2.2.1]; exact hn) (eR_cat w x)
  exact ws_astore_n F.1 F.2.1 hd e' (by rcases @eR_ref w x with q | q; exact Or.inl q; exact Or.inr ⟨_, q⟩) (k hv hx (cns_st1 hl hs.1) hs.2 H locs ls' hH hlo h')
theorem v_astore (F : Fx w G cc own nL rt rm) {i : Nat} {x : Int} {L' : List MV} (hd : decode cc pc = .ok (.astore i, 2)) (hn : i < nL) (hg : mSt1 L i (mA x) = L') (k : V w l X G Q d m kc ks (pc + 2) L' S) : V w l X G Q d m kc ks pc L (mA x :: S) := by
  intro hv hx hl hs H locs lsR hH hlo hL
  subst hg
  obtain ⟨ls', e', h'⟩ := hL.st1 (v := mA x) (by rw [F.2.2.1]; exact hn) (eR_cat w x)
  exact ws_astore F.1 F.2.1 hd e' (by rcases @eR_ref w x with q | q; exact Or.inl q; exact Or.inr ⟨_, q⟩) (k hv hx (cns_st1 hl hs.1) hs.2 H locs ls' hH hlo h')
theorem v_iinc (F : Fx w G cc own nL rt rm) {i : Nat} {n x : Int} {L' : List MV} (hd : decode cc pc = .ok (.iinc i n, 3)) (hn : i < nL) (hg : mGet L i = mI x) (hs' : mSt1 L i (mI (w32 (x + n))) = L') (k : V w l X G Q d m kc ks (pc + 3) L' S) : V w l X G Q d m kc ks pc L S := by
  intro hv hx hl hs H locs lsR hH hlo hL
  subst hs'
  obtain ⟨ls', e', h'⟩ := hL.st1 (v := mI (w32 (x + n))) (by rw [F.2.2.1]; exact hn) rfl
  have e2 : storeLocals lsR i (.int (Int32.ofInt x + Int32.ofInt n)) = some ls' := by rw [i32_add]; exact e'
  exact ws_iinc F.1 F.2.1 hd (hL.get hg (fun h => by cases h)) e2 (k hv hx (cns_st1 hl (in32_w _)) hs H locs ls' hH hlo h')
theorem v_iadd (F : Fx w G cc own nL rt rm) {a b : Int} (hd : decode cc pc = .ok (.iadd, 1)) (k : V w l X G Q d m kc ks (pc + 1) L (mI (w32 (a + b)) :: S)) : V w l X G Q d m kc ks pc L (mI b :: mI a :: S) := by
  intro hv hx hl hs H locs lsR hH hlo hL
  refine lv_iadd F.1 F.2.1 hd ?_
  rw [i32_add]
  exact k hv hx hl ⟨in32_w _, hs.2.2⟩ H locs lsR hH hlo hL
theorem v_ladd (F : Fx w G cc own nL rt rm) {a b : Int} (hd : decode cc pc = .ok (.ladd, 1)) (k : V w l X G Q d m kc ks (pc + 1) L (mL (w64 (a + b)) :: S)) : V w l X G Q d m kc ks pc L (mL b :: mL a :: S) := by
  intro hv hx hl hs H locs lsR hH hlo hL
  refine lv_ladd F.1 F.2.1 hd ?_
  rw [i64_add]
  exact k hv hx hl ⟨in64_w _, hs.2.2⟩ H locs lsR hH hlo hL
theorem v_isub (F : Fx w G cc own nL rt rm) {a b : Int} (hd : decode cc pc = .ok (.isub, 1)) (k : V w l X G Q d m kc ks (pc + 1) L (mI (w32 (a - b)) :: S)) : V w l X G Q d m kc ks pc L (mI b :: mI a :: S) := by
  intro hv hx hl hs H locs lsR hH hlo hL
  refine lv_isub F.1 F.2.1 hd ?_
  rw [i32_sub]
  exact k hv hx hl ⟨in32_w _, hs.2.2⟩ H locs lsR hH hlo hL
theorem v_lsub (F : Fx w G cc own nL rt rm) {a b : Int} (hd : decode cc pc = .ok (.lsub, 1)) (k : V w l X G Q d m kc ks (pc + 1) L (mL (w64 (a - b)) :: S)) : V w l X G Q d m kc ks pc L (mL b :: mL a :: S) := by
  intro hv hx hl hs H locs lsR hH hlo hL
  refine lv_lsub F.1 F.2.1 hd ?_
  rw [i64_sub]
  exact k hv hx hl ⟨in64_w _, hs.2.2⟩ H locs lsR hH hlo hL
theorem v_imul (F : Fx w G cc own nL rt rm) {a b : Int} (hd : decode cc pc = .ok (.imul, 1)) (k : V w l X G Q d m kc ks (pc + 1) L (mI (w32 (a * b)) :: S)) : V w l X G Q d m kc ks pc L (mI b :: mI a :: S) := by
  intro hv hx hl hs H locs lsR hH hlo hL
  refine lv_imul F.1 F.2.1 hd ?_
  rw [i32_mul]
  exact k hv hx hl ⟨in32_w _, hs.2.2⟩ H locs lsR hH hlo hL
theorem v_lmul (F : Fx w G cc own nL rt rm) {a b : Int} (hd : decode cc pc = .ok (.lmul, 1)) (k : V w l X G Q d m kc ks (pc + 1) L (mL (w64 (a * b)) :: S)) : V w l X G Q d m kc ks pc L (mL b :: mL a :: S) := by
  intro hv hx hl hs H locs lsR hH hlo hL
  refine lv_lmul F.1 F.2.1 hd ?_
  rw [i64_mul]
  exact k hv hx hl ⟨in64_w _, hs.2.2⟩ H locs lsR hH hlo hL
theorem v_idiv (F : Fx w G cc own nL rt rm) {a b : Int} (hd : decode cc pc = .ok (.idiv, 1)) (h0 : b ≠ 0) (k : V w l X G Q d m kc ks (pc + 1) L (mI (w32 (a.tdiv b)) :: S)) : V w l X G Q d m kc ks pc L (mI b :: mI a :: S) := by
  intro hv hx hl hs H locs lsR hH hlo hL
  refine lv_idiv F.1 F.2.1 hd (fun h => h0 ((i32_eq hs.1 in32_0).mp h)) ?_
  rw [i32_div hs.2.1 hs.1]
  exact k hv hx hl ⟨in32_w _, hs.2.2⟩ H locs lsR hH hlo hL
theorem v_irem (F : Fx w G cc own nL rt rm) {a b : Int} (hd : decode cc pc = .ok (.irem, 1)) (h0 : b ≠ 0) (k : V w l X G Q d m kc ks (pc + 1) L (mI (a.tmod b) :: S)) : V w l X G Q d m kc ks pc L (mI b :: mI a :: S) := by
  intro hv hx hl hs H locs lsR hH hlo hL
  refine lv_irem F.1 F.2.1 hd (fun h => h0 ((i32_eq hs.1 in32_0).mp h)) ?_
  rw [i32_rem hs.2.1 hs.1]
  exact k hv hx hl ⟨in32_rem hs.2.1, hs.2.2⟩ H locs lsR hH hlo hL
theorem v_ldiv (F : Fx w G cc own nL rt rm) {a b : Int} (hd : decode cc pc = .ok (.ldiv, 1)) (h0 : b ≠ 0) (k : V w l X G Q d m kc ks (pc + 1) L (mL (w64 (a.tdiv b)) :: S)) : V w l X G Q d m kc ks pc L (mL b :: mL a :: S) := by
  intro hv hx hl hs H locs lsR hH hlo hL
  refine lv_ldiv F.1 F.2.1 hd (fun h => h0 ((i64_eq hs.1 (by unfold in64; omega)).mp h)) ?_
  rw [i64_div hs.2.1 hs.1]
  exact k hv hx hl ⟨in64_w _, hs.2.2⟩ H locs lsR hH hlo hL
theorem v_lrem (F : Fx w G cc own nL rt rm) {a b : Int} (hd : decode cc pc = .ok (.lrem, 1)) (h0 : b ≠ 0) (k : V w l X G Q d m kc ks (pc + 1) L (mL (a.tmod b) :: S)) : V w l X G Q d m kc ks pc L (mL b :: mL a :: S) := by
  intro hv hx hl hs H locs lsR hH hlo hL
  refine lv_lrem F.1 F.2.1 hd (fun h => h0 ((i64_eq hs.1 (by unfold in64; omega)).mp h)) ?_
  rw [i64_rem hs.2.1 hs.1]
  exact k hv hx hl ⟨in64_rem hs.2.1, hs.2.2⟩ H locs lsR hH hlo hL
theorem v_ineg (F : Fx w G cc own nL rt rm) {a : Int} (hd : decode cc pc = .ok (.ineg, 1)) (k : V w l X G Q d m kc ks (pc + 1) L (mI (w32 (-a)) :: S)) : V w l X G Q d m kc ks pc L (mI a :: S) := by
  intro hv hx hl hs H locs lsR hH hlo hL
  refine lv_ineg F.1 F.2.1 hd ?_
  rw [i32_neg]
  exact k hv hx hl ⟨in32_w _, hs.2⟩ H locs lsR hH hlo hL
theorem v_lneg (F : Fx w G cc own nL rt rm) {a : Int} (hd : decode cc pc = .ok (.lneg, 1)) (k : V w l X G Q d m kc ks (pc + 1) L (mL (w64 (-a)) :: S)) : V w l X G Q d m kc ks pc L (mL a :: S) := by
  intro hv hx hl hs H locs lsR hH hlo hL
  refine lv_lneg F.1 F.2.1 hd ?_
  rw [i64_neg]
  exact k hv hx hl ⟨in64_w _, hs.2⟩ H locs lsR hH hlo hL
theorem v_iand (F : Fx w G cc own nL rt rm) {a b : Int} (hd : decode cc pc = .ok (.iand, 1)) (k : V w l X G Q d m kc ks (pc + 1) L (mI (bAnd a b) :: S)) : V w l X G Q d m kc ks pc L (mI b :: mI a :: S) := by
  intro hv hx hl hs H locs lsR hH hlo hL
  refine lv_iand F.1 F.2.1 hd ?_
  have h := k hv hx hl ⟨in32_to _, hs.2.2⟩ H locs lsR hH hlo hL
  simp only [List.map_cons, eV, bAnd, i32_of] at h
  exact h
theorem v_ior (F : Fx w G cc own nL rt rm) {a b : Int} (hd : decode cc pc = .ok (.ior, 1)) (k : V w l X G Q d m kc ks (pc + 1) L (mI (bOr a b) :: S)) : V w l X G Q d m kc ks pc L (mI b :: mI a :: S) := by
  intro hv hx hl hs H locs lsR hH hlo hL
  refine lv_ior F.1 F.2.1 hd ?_
  have h := k hv hx hl ⟨in32_to _, hs.2.2⟩ H locs lsR hH hlo hL
  simp only [List.map_cons, eV, bOr, i32_of] at h
  exact h
theorem v_ixor (F : Fx w G cc own nL rt rm) {a b : Int} (hd : decode cc pc = .ok (.ixor, 1)) (k : V w l X G Q d m kc ks (pc + 1) L (mI (bXor a b) :: S)) : V w l X G Q d m kc ks pc L (mI b :: mI a :: S) := by
  intro hv hx hl hs H locs lsR hH hlo hL
  refine lv_ixor F.1 F.2.1 hd ?_
  have h := k hv hx hl ⟨in32_to _, hs.2.2⟩ H locs lsR hH hlo hL
  simp only [List.map_cons, eV, bXor, i32_of] at h
  exact h
theorem v_ishl (F : Fx w G cc own nL rt rm) {a b : Int} (hd : decode cc pc = .ok (.ishl, 1)) (k : V w l X G Q d m kc ks (pc + 1) L (mI (bShl a b) :: S)) : V w l X G Q d m kc ks pc L (mI b :: mI a :: S) := by
  intro hv hx hl hs H locs lsR hH hlo hL
  refine lv_ishl F.1 F.2.1 hd ?_
  have h := k hv hx hl ⟨in32_to _, hs.2.2⟩ H locs lsR hH hlo hL
  simp only [List.map_cons, eV, bShl, i32_of] at h
  exact h
theorem v_ishr (F : Fx w G cc own nL rt rm) {a b : Int} (hd : decode cc pc = .ok (.ishr, 1)) (k : V w l X G Q d m kc ks (pc + 1) L (mI (bShr a b) :: S)) : V w l X G Q d m kc ks pc L (mI b :: mI a :: S) := by
  intro hv hx hl hs H locs lsR hH hlo hL
  refine lv_ishr F.1 F.2.1 hd ?_
  have h := k hv hx hl ⟨in32_to _, hs.2.2⟩ H locs lsR hH hlo hL
  simp only [List.map_cons, eV, bShr, i32_of] at h
  exact h
theorem v_land (F : Fx w G cc own nL rt rm) {a b : Int} (hd : decode cc pc = .ok (.land, 1)) (k : V w l X G Q d m kc ks (pc + 1) L (mL (jAnd a b) :: S)) : V w l X G Q d m kc ks pc L (mL b :: mL a :: S) := by
  intro hv hx hl hs H locs lsR hH hlo hL
  refine lv_land F.1 F.2.1 hd ?_
  have h := k hv hx hl ⟨in64_to _, hs.2.2⟩ H locs lsR hH hlo hL
  simp only [List.map_cons, eV, jAnd, i64_of] at h
  exact h
theorem v_lor (F : Fx w G cc own nL rt rm) {a b : Int} (hd : decode cc pc = .ok (.lor, 1)) (k : V w l X G Q d m kc ks (pc + 1) L (mL (jOr a b) :: S)) : V w l X G Q d m kc ks pc L (mL b :: mL a :: S) := by
  intro hv hx hl hs H locs lsR hH hlo hL
  refine lv_lor F.1 F.2.1 hd ?_
  have h := k hv hx hl ⟨in64_to _, hs.2.2⟩ H locs lsR hH hlo hL
  simp only [List.map_cons, eV, jOr, i64_of] at h
  exact h
theorem v_lxor (F : Fx w G cc own nL rt rm) {a b : Int} (hd : decode cc pc = .ok (.lxor, 1)) (k : V w l X G Q d m kc ks (pc + 1) L (mL (jXor a b) :: S)) : V w l X G Q d m kc ks pc L (mL b :: mL a :: S) := by
  intro hv hx hl hs H locs lsR hH hlo hL
  refine lv_lxor F.1 F.2.1 hd ?_
  have h := k hv hx hl ⟨in64_to _, hs.2.2⟩ H locs lsR hH hlo hL
  simp only [List.map_cons, eV, jXor, i64_of] at h
  exact h
theorem v_iushr (F : Fx w G cc own nL rt rm) {a b : Int} (hd : decode cc pc = .ok (.iushr, 1)) (k : V w l X G Q d m kc ks (pc + 1) L (mI (bUshr a b) :: S)) : V w l X G Q d m kc ks pc L (mI b :: mI a :: S) := by
  intro hv hx hl hs H locs lsR hH hlo hL
  have h := k hv hx hl ⟨in32_to _, hs.2.2⟩ H locs lsR hH hlo hL
  simp only [List.map_cons, eV, bUshr, i32_of] at h
  exact lv_iushr F.1 F.2.1 hd rfl h
theorem v_lshl (F : Fx w G cc own nL rt rm) {a b : Int} (hd : decode cc pc = .ok (.lshl, 1)) (k : V w l X G Q d m kc ks (pc + 1) L (mL (jShl a b) :: S)) : V w l X G Q d m kc ks pc L (mI b :: mL a :: S) := by
  intro hv hx hl hs H locs lsR hH hlo hL
  have h := k hv hx hl ⟨in64_to _, hs.2.2⟩ H locs lsR hH hlo hL
  simp only [List.map_cons, eV, jShl, i64_of] at h
  exact lv_lshl F.1 F.2.1 hd rfl h
theorem v_lshr (F : Fx w G cc own nL rt rm) {a b : Int} (hd : decode cc pc = .ok (.lshr, 1)) (k : V w l X G Q d m kc ks (pc + 1) L (mL (jShr a b) :: S)) : V w l X G Q d m kc ks pc L (mI b :: mL a :: S) := by
  intro hv hx hl hs H locs lsR hH hlo hL
  have h := k hv hx hl ⟨in64_to _, hs.2.2⟩ H locs lsR hH hlo hL
  simp only [List.map_cons, eV, jShr, i64_of] at h
  exact lv_lshr F.1 F.2.1 hd rfl h
theorem v_lushr (F : Fx w G cc own nL rt rm) {a b : Int} (hd : decode cc pc = .ok (.lushr, 1)) (k : V w l X G Q d m kc ks (pc + 1) L (mL (jUshr a b) :: S)) : V w l X G Q d m kc ks pc L (mI b :: mL a :: S) := by
  intro hv hx hl hs H locs lsR hH hlo hL
  have h := k hv hx hl ⟨in64_to _, hs.2.2⟩ H locs lsR hH hlo hL
  simp only [List.map_cons, eV, jUshr, i64_of] at h
  exact lv_lushr F.1 F.2.1 hd rfl h
theorem v_i2l (F : Fx w G cc own nL rt rm) {a : Int} (hd : decode cc pc = .ok (.i2l, 1)) (k : V w l X G Q d m kc ks (pc + 1) L (mL a :: S)) : V w l X G Q d m kc ks pc L (mI a :: S) := by
  intro hv hx hl hs H locs lsR hH hlo hL
  exact lv_i2l F.1 F.2.1 hd (i64_i2l hs.1) (k hv hx hl ⟨by have := hs.1; unfold cn in32 at this; unfold cn in64; omega, hs.2⟩ H locs lsR hH hlo hL)
theorem v_l2i (F : Fx w G cc own nL rt rm) {a : Int} (hd : decode cc pc = .ok (.l2i, 1)) (k : V w l X G Q d m kc ks (pc + 1) L (mI (w32 a) :: S)) : V w l X G Q d m kc ks pc L (mL a :: S) := by
  intro hv hx hl hs H locs lsR hH hlo hL
  exact lv_l2i F.1 F.2.1 hd i32_l2i (k hv hx hl ⟨in32_w _, hs.2⟩ H locs lsR hH hlo hL)
theorem v_i2b (F : Fx w G cc own nL rt rm) {a : Int} (hd : decode cc pc = .ok (.i2b, 1)) (k : V w l X G Q d m kc ks (pc + 1) L (mI (w8 a) :: S)) : V w l X G Q d m kc ks pc L (mI a :: S) := by
  intro hv hx hl hs H locs lsR hH hlo hL
  exact lv_i2b F.1 F.2.1 hd (i8_i2b hs.1) (k hv hx hl ⟨by unfold cn in32 w8; omega, hs.2⟩ H locs lsR hH hlo hL)
theorem v_i2c (F : Fx w G cc own nL rt rm) {a : Int} (hd : decode cc pc = .ok (.i2c, 1)) (k : V w l X G Q d m kc ks (pc + 1) L (mI (i2c_ a) :: S)) : V w l X G Q d m kc ks pc L (mI a :: S) := by
  intro hv hx hl hs H locs lsR hH hlo hL
  have h := k hv hx hl ⟨in32_to _, hs.2⟩ H locs lsR hH hlo hL
  simp only [List.map_cons, eV, i2c_, i32_of] at h
  exact lv_i2c F.1 F.2.1 hd rfl h
theorem v_lcmp (F : Fx w G cc own nL rt rm) {a b : Int} (hd : decode cc pc = .ok (.lcmp, 1)) (k : V w l X G Q d m kc ks (pc + 1) L (mI (jCmp a b) :: S)) : V w l X G Q d m kc ks pc L (mL b :: mL a :: S) := by
  intro hv hx hl hs H locs lsR hH hlo hL
  refine W.lcmp F.1 F.2.1 hd ?_
  rw [jcmp_ok hs.2.1 hs.1]
  exact k hv hx hl ⟨in32_jcmp _ _, hs.2.2⟩ H locs lsR hH hlo hL
theorem v_dup_I (F : Fx w G cc own nL rt rm) {a : Int} (hd : decode cc pc = .ok (.dup, 1)) (k : V w l X G Q d m kc ks (pc + 1) L (mI a :: mI a :: S)) : V w l X G Q d m kc ks pc L (mI a :: S) := by
  intro hv hx hl hs H locs lsR hH hlo hL
  exact lv_dup F.1 F.2.1 hd rfl (k hv hx hl ⟨hs.1, hs⟩ H locs lsR hH hlo hL)
theorem v_pop_I (F : Fx w G cc own nL rt rm) {a : Int} (hd : decode cc pc = .ok (.pop, 1)) (k : V w l X G Q d m kc ks (pc + 1) L S) : V w l X G Q d m kc ks pc L (mI a :: S) := by
  intro hv hx hl hs H locs lsR hH hlo hL
  exact lv_pop F.1 F.2.1 hd rfl (k hv hx hl hs.2 H locs lsR hH hlo hL)
theorem v_dup_A (F : Fx w G cc own nL rt rm) {a : Int} (hd : decode cc pc = .ok (.dup, 1)) (k : V w l X G Q d m kc ks (pc + 1) L (mA a :: mA a :: S)) : V w l X G Q d m kc ks pc L (mA a :: S) := by
  intro hv hx hl hs H locs lsR hH hlo hL
  exact lv_dup F.1 F.2.1 hd (eR_cat w a) (k hv hx hl ⟨hs.1, hs⟩ H locs lsR hH hlo hL)
theorem v_pop_A (F : Fx w G cc own nL rt rm) {a : Int} (hd : decode cc pc = .ok (.pop, 1)) (k : V w l X G Q d m kc ks (pc + 1) L S) : V w l X G Q d m kc ks pc L (mA a :: S) := by
  intro hv hx hl hs H locs lsR hH hlo hL
  exact lv_pop F.1 F.2.1 hd (eR_cat w a) (k hv hx hl hs.2 H locs lsR hH hlo hL)
theorem v_dup2_L (F : Fx w G cc own nL rt rm) {a : Int} (hd : decode cc pc = .ok (.dup2, 1)) (k : V w l X G Q d m kc ks (pc + 1) L (mL a :: mL a :: S)) : V w l X G Q d m kc ks pc L (mL a :: S) := by
  intro hv hx hl hs H locs lsR hH hlo hL
  exact lv_dup2_2 F.1 F.2.1 hd rfl (k hv hx hl ⟨hs.1, hs⟩ H locs lsR hH hlo hL)
theorem v_dup2_IA (F : Fx w G cc own nL rt rm) {a b : Int} (hd : decode cc pc = .ok (.dup2, 1)) (k : V w l X G Q d m kc ks (pc + 1) L (mI a :: mA b :: mI a :: mA b :: S)) : V w l X G Q d m kc ks pc L (mI a :: mA b :: S) := by
  intro hv hx hl hs H locs lsR hH hlo hL
  exact lv_dup2_11 F.1 F.2.1 hd rfl (eR_cat w b) (k hv hx hl ⟨hs.1, hs.2.1, hs⟩ H locs lsR hH hlo hL)
theorem v_dup_x1_IA (F : Fx w G cc own nL rt rm) {a b : Int} (hd : decode cc pc = .ok (.dup_x1, 1)) (k : V w l X G Q d m kc ks (pc + 1) L (mI a :: mA b :: mI a :: S)) : V w l X G Q d m kc ks pc L (mI a :: mA b :: S) := by
  intro hv hx hl hs H locs lsR hH hlo hL
  exact lv_dup_x1 F.1 F.2.1 hd rfl (eR_cat w b) (k hv hx hl ⟨hs.1, hs.2.1, hs.1, hs.2.2⟩ H locs lsR hH hlo hL)
theorem v_if_eq (F : Fx w G cc own nL rt rm) {a : Int} {off : Int} {tgt : Nat} (hd : decode cc pc = .ok (.ifCond .eq off, 3)) (ht : (pc : Int) + off = (tgt : Int)) (kt : a = 0 → V w l X G Q d m kc ks tgt L S) (kf : ¬ a = 0 → V w l X G Q d m kc ks (pc + 3) L S) : V w l X G Q d m kc ks pc L (mI a :: S) := by
  intro hv hx hl hs H locs lsR hH hlo hL
  exact lv_if_eq F.1 F.2.1 hd ht (fun h => kt ((i32_eq hs.1 in32_0).mp h) hv hx hl hs.2 H locs lsR hH hlo hL) (fun h => kf (fun q => h ((i32_eq hs.1 in32_0).mpr q)) hv hx hl hs.2 H locs lsR hH hlo hL)
theorem v_if_ne (F : Fx w G cc own nL rt rm) {a : Int} {off : Int} {tgt : Nat} (hd : decode cc pc = .ok (.ifCond .ne off, 3)) (ht : (pc : Int) + off = (tgt : Int)) (kt : ¬ a = 0 → V w l X G Q d m kc ks tgt L S) (kf : a = 0 → V w l X G Q d m kc ks (pc + 3) L S) : V w l X G Q d m kc ks pc L (mI a :: S) := by
  intro hv hx hl hs H locs lsR hH hlo hL
  exact lv_if_ne F.1 F.2.1 hd ht (fun h => kt (fun q => h ((i32_eq hs.1 in32_0).mpr q)) hv hx hl hs.2 H locs lsR hH hlo hL) (fun h => kf ((i32_eq hs.1 in32_0).mp h) hv hx hl hs.2 H locs lsR hH hlo hL)
theorem v_if_lt (F : Fx w G cc own nL rt rm) {a : Int} {off : Int} {tgt : Nat} (hd : decode cc pc = .ok (.ifCond .lt off, 3)) (ht : (pc : Int) + off = (tgt : Int)) (kt : a < 0 → V w l X G Q d m kc ks tgt L S) (kf : ¬ a < 0 → V w l X G Q d m kc ks (pc + 3) L S) : V w l X G Q d m kc ks pc L (mI a :: S) := by
  intro hv hx hl hs H locs lsR hH hlo hL
  exact lv_if_lt F.1 F.2.1 hd ht (fun h => kt ((i32_lt hs.1 in32_0).mp h) hv hx hl hs.2 H locs lsR hH hlo hL) (fun h => kf (fun q => h ((i32_lt hs.1 in32_0).mpr q)) hv hx hl hs.2 H locs lsR hH hlo hL)
theorem v_if_le (F : Fx w G cc own nL rt rm) {a : Int} {off : Int} {tgt : Nat} (hd : decode cc pc = .ok (.ifCond .le off, 3)) (ht : (pc : Int) + off = (tgt : Int)) (kt : a ≤ 0 → V w l X G Q d m kc ks tgt L S) (kf : ¬ a ≤ 0 → V w l X G Q d m kc ks (pc + 3) L S) : V w l X G Q d m kc ks pc L (mI a :: S) := by
  intro hv hx hl hs H locs lsR hH hlo hL
  exact lv_if_le F.1 F.2.1 hd ht (fun h => kt ((i32_le hs.1 in32_0).mp h) hv hx hl hs.2 H locs lsR hH hlo hL) (fun h => kf (fun q => h ((i32_le hs.1 in32_0).mpr q)) hv hx hl hs.2 H locs lsR hH hlo hL)
theorem v_if_ge (F : Fx w G cc own nL rt rm) {a : Int} {off : Int} {tgt : Nat} (hd : decode cc pc = .ok (.ifCond .ge off, 3)) (ht : (pc : Int) + off = (tgt : Int)) (kt : 0 ≤ a → V w l X G Q d m kc ks tgt L S) (kf : ¬ 0 ≤ a → V w l X G Q d m kc ks (pc + 3) L S) : V w l X G Q d m kc ks pc L (mI a :: S) := by
  intro hv hx hl hs H locs lsR hH hlo hL
  exact lv_if_ge F.1 F.2.1 hd ht (fun h => kt ((i32_le in32_0 hs.1).mp h) hv hx hl hs.2 H locs lsR hH hlo hL) (fun h => kf (fun q => h ((i32_le in32_0 hs.1).mpr q)) hv hx hl hs.2 H locs lsR hH hlo hL)
theorem v_if_gt (F : Fx w G cc own nL rt rm) {a : Int} {off : Int} {tgt : Nat} (hd : decode cc pc = .ok (.ifCond .gt off, 3)) (ht : (pc : Int) + off = (tgt : Int)) (kt : 0 < a → V w l X G Q d m kc ks tgt L S) (kf : ¬ 0 < a → V w l X G Q d m kc ks (pc + 3) L S) : V w l X G Q d m kc ks pc L (mI a :: S) := by
  intro hv hx hl hs H locs lsR hH hlo hL
  exact lv_if_gt F.1 F.2.1 hd ht (fun h => kt ((i32_lt in32_0 hs.1).mp h) hv hx hl hs.2 H locs lsR hH hlo hL) (fun h => kf (fun q => h ((i32_lt in32_0 hs.1).mpr q)) hv hx hl hs.2 H locs lsR hH hlo hL)
theorem v_icmp_eq (F : Fx w G cc own nL rt rm) {a b : Int} {off : Int} {tgt : Nat} (hd : decode cc pc = .ok (.if_icmp .eq off, 3)) (ht : (pc : Int) + off = (tgt : Int)) (kt : a = b → V w l X G Q d m kc ks tgt L S) (kf : ¬ a = b → V w l X G Q d m kc ks (pc + 3) L S) : V w l X G Q d m kc ks pc L (mI b :: mI a :: S) := by
  intro hv hx hl hs H locs lsR hH hlo hL
  exact lv_icmp_eq F.1 F.2.1 hd ht (fun h => kt ((i32_eq hs.2.1 hs.1).mp h) hv hx hl hs.2.2 H locs lsR hH hlo hL) (fun h => kf (fun q => h ((i32_eq hs.2.1 hs.1).mpr q)) hv hx hl hs.2.2 H locs lsR hH hlo hL)
theorem v_icmp_ne (F : Fx w G cc own nL rt rm) {a b : Int} {off : Int} {tgt : Nat} (hd : decode cc pc = .ok (.if_icmp .ne off, 3)) (ht : (pc : Int) + off = (tgt : Int)) (kt : ¬ a = b → V w l X G Q d m kc ks tgt L S) (kf : a = b → V w l X G Q d m kc ks (pc + 3) L S) : V w l X G Q d m kc ks pc L (mI b :: mI a :: S) := by
  intro hv hx hl hs H locs lsR hH hlo hL
  exact lv_icmp_ne F.1 F.2.1 hd ht (fun h => kt (fun q => h ((i32_eq hs.2.1 hs.1).mpr q)) hv hx hl hs.2.2 H locs lsR hH hlo hL) (fun h => kf ((i32_eq hs.2.1 hs.1).mp h) hv hx hl hs.2.2 H locs lsR hH hlo hL)
theorem v_icmp_lt (F : Fx w G cc own nL rt rm) {a b : Int} {off : Int} {tgt : Nat} (hd : decode cc pc = .ok (.if_icmp .lt off, 3)) (ht : (pc : Int) + off = (tgt : Int)) (kt : a < b → V w l X G Q d m kc ks tgt L S) (kf : ¬ a < b → V w l X G Q d m kc ks (pc + 3) L S) : V w l X G Q d m kc ks pc L (mI b :: mI a :: S) := by
  intro hv hx hl hs H locs lsR hH hlo hL
  exact lv_icmp_lt F.1 F.2.1 hd ht (fun h => kt ((i32_lt hs.2.1 hs.1).mp h) hv hx hl hs.2.2 H locs lsR hH hlo hL) (fun h => kf (fun q => h ((i32_lt hs.2.1 hs.1).mpr q)) hv hx hl hs.2.2 H locs lsR hH hlo hL)
theorem v_icmp_le (F : Fx w G cc own nL rt rm) {a b : Int} {off : Int} {tgt : Nat} (hd : decode cc pc = .ok (.if_icmp .le off, 3)) (ht : (pc : Int) + off = (tgt : Int)) (kt : a ≤ b → V w l X G Q d m kc ks tgt L S) (kf : ¬ a ≤ b → V w l X G Q d m kc ks (pc + 3) L S) : V w l X G Q d m kc ks pc L (mI b :: mI a :: S) := by
  intro hv hx hl hs H locs lsR hH hlo hL
  exact lv_icmp_le F.1 F.2.1 hd ht (fun h => kt ((i32_le hs.2.1 hs.1).mp h) hv hx hl hs.2.2 H locs lsR hH hlo hL) (fun h => kf (fun q => h ((i32_le hs.2.1 hs.1).mpr q)) hv hx hl hs.2.2 H locs lsR hH hlo hL)
theorem v_icmp_ge (F : Fx w G cc own nL rt rm) {a b : Int} {off : Int} {tgt : Nat} (hd : decode cc pc = .ok (.if_icmp .ge off, 3)) (ht : (pc : Int) + off = (tgt : Int)) (kt : b ≤ a → V w l X G Q d m kc ks tgt L S) (kf : ¬ b ≤ a → V w l X G Q d m kc ks (pc + 3) L S) : V w l X G Q d m kc ks pc L (mI b :: mI a :: S) := by
  intro hv hx hl hs H locs lsR hH hlo hL
  exact lv_icmp_ge F.1 F.2.1 hd ht (fun h => kt ((i32_le hs.1 hs.2.1).mp h) hv hx hl hs.2.2 H locs lsR hH hlo hL) (fun h => kf (fun q => h ((i32_le hs.1 hs.2.1).mpr q)) hv hx hl hs.2.2 H locs lsR hH hlo hL)
theorem v_icmp_gt (F : Fx w G cc own nL rt rm) {a b : Int} {off : Int} {tgt : Nat} (hd : decode cc pc = .ok (.if_icmp .gt off, 3)) (ht : (pc : Int) + off = (tgt : Int)) (kt : b < a → V w l X G Q d m kc ks tgt L S) (kf : ¬ b < a → V w l X G Q d m kc ks (pc + 3) L S) : V w l X G Q d m kc ks pc L (mI b :: mI a :: S) := by
  intro hv hx hl hs H locs lsR hH hlo hL
  exact lv_icmp_gt F.1 F.2.1 hd ht (fun h => kt ((i32_lt hs.1 hs.2.1).mp h) hv hx hl hs.2.2 H locs lsR hH hlo hL) (fun h => kf (fun q => h ((i32_lt hs.1 hs.2.1).mpr q)) hv hx hl hs.2.2 H locs lsR hH hlo hL)
theorem v_goto (F : Fx w G cc own nL rt rm) {off : Int} {tgt : Nat} (hd : decode cc pc = .ok (.goto off, 3)) (ht : (pc : Int) + off = (tgt : Int)) (k : V w l X G Q d m kc ks tgt L S) : V w l X G Q d m kc ks pc L S := by
  intro hv hx hl hs H locs lsR hH hlo hL
  exact lv_goto F.1 F.2.1 hd ht (k hv hx hl hs H locs lsR hH hlo hL)
theorem v_tableOut (F : Fx w G cc own nL rt rm) {a dflt lo hi : Int} {offs : Array Int} {len tgt : Nat} (hd : decode cc pc = .ok (.tableswitch dflt lo hi offs, len)) (h : a < lo ∨ hi < a) (ht : (pc : Int) + dflt = (tgt : Int)) (k : V w l X G Q d m kc ks tgt L S) : V w l X G Q d m kc ks pc L (mI a :: S) := by
  intro hv hx hl hs H locs lsR hH hlo hL
  exact lv_tableOut F.1 F.2.1 hd (by rw [i32_to hs.1]; exact h) ht (k hv hx hl hs.2 H locs lsR hH hlo hL)
theorem v_tableIn (F : Fx w G cc own nL rt rm) {a v dflt lo hi off : Int} {offs : Array Int} {len tgt : Nat} (hd : decode cc pc = .ok (.tableswitch dflt lo hi offs, len)) (h : a = v) (h1 : ¬ v < lo) (h2 : ¬ hi < v) (ho : offs[(v - lo).toNat]? = some off) (ht : (pc : Int) + off = (tgt : Int)) (k : V w l X G Q d m kc ks tgt L S) : V w l X G Q d m kc ks pc L (mI a :: S) := by
  intro hv hx hl hs H locs lsR hH hlo hL
  subst h
  exact lv_tableIn F.1 F.2.1 hd (by rw [i32_to hs.1]; exact h1) (by rw [i32_to hs.1]; exact h2) (by rw [i32_to hs.1]; exact ho) ht (k hv hx hl hs.2 H locs lsR hH hlo hL)
theorem v_lookup (F : Fx w G cc own nL rt rm) {a dflt off : Int} {ps : Array (Int × Int)} {len tgt : Nat} (hd : decode cc pc = .ok (.lookupswitch dflt ps, len)) (hp : (ps.toList.zip (ps.toList.drop 1)).all (fun (a, next) => a.1 < next.1) = true) (ho : Op.lookupswitch.offset ps.toList dflt a = off) (ht : (pc : Int) + off = (tgt : Int)) (k : V w l X G Q d m kc ks tgt L S) : V w l X G Q d m kc ks pc L (mI a :: S) := by
  intro hv hx hl hs H locs lsR hH hlo hL
  exact lv_lookup F.1 F.2.1 hd hp (by rw [i32_to hs.1]; exact ho) ht (k hv hx hl hs.2 H locs lsR hH hlo hL)
theorem v_ifnull (F : Fx w G cc own nL rt rm) {a off : Int} {tgt : Nat} (hd : decode cc pc = .ok (.ifnull off, 3)) (ht : (pc : Int) + off = (tgt : Int)) (kt : a = 0 → V w l X G Q d m kc ks tgt L S) (kf : ¬ a = 0 → V w l X G Q d m kc ks (pc + 3) L S) : V w l X G Q d m kc ks pc L (mA a :: S) := by
  intro hv hx hl hs H locs lsR hH hlo hL
  by_cases h : a = 0
  · have g := kt h hv hx hl hs.2 H locs lsR hH hlo hL
    simp only [List.map_cons, eV, eR, if_pos h]
    exact lv_ifnullN F.1 F.2.1 hd ht g
  · have g := kf h hv hx hl hs.2 H locs lsR hH hlo hL
    simp only [List.map_cons, eV, eR, if_neg h]
    exact lv_ifnull F.1 F.2.1 hd g
theorem v_ifnonnull (F : Fx w G cc own nL rt rm) {a off : Int} {tgt : Nat} (hd : decode cc pc = .ok (.ifnonnull off, 3)) (ht : (pc : Int) + off = (tgt : Int)) (kt : ¬ a = 0 → V w l X G Q d m kc ks tgt L S) (kf : a = 0 → V w l X G Q d m kc ks (pc + 3) L S) : V w l X G Q d m kc ks pc L (mA a :: S) := by
  intro hv hx hl hs H locs lsR hH hlo hL
  by_cases h : a = 0
  · have g := kf h hv hx hl hs.2 H locs lsR hH hlo hL
    simp only [List.map_cons, eV, eR, if_pos h]
    exact lv_ifnonnullN F.1 F.2.1 hd g
  · have g := kt h hv hx hl hs.2 H locs lsR hH hlo hL
    simp only [List.map_cons, eV, eR, if_neg h]
    exact lv_ifnonnull F.1 F.2.1 hd ht g
theorem eR_rf (w : Wd) (v : Int) : eR w v = va_rf (if v = 0 then none else some (fA w v)) := by
  unfold eR va_rf
  split
  · rfl
  · rfl
theorem fA_inj {w : Wd} {a b : Int} (ha : 0 ≤ a) (hb : 0 ≤ b) : (if a = 0 then none else some (fA w a)) = (if b = 0 then none else some (fA w b)) ↔ a = b := by
  constructor
  · intro h
    by_cases h1 : a = 0 <;> by_cases h2 : b = 0
    · omega
    · rw [if_pos h1, if_neg h2] at h; cases h
    · rw [if_neg h1, if_pos h2] at h; cases h
    · rw [if_neg h1, if_neg h2] at h
      have h := Option.some.inj h
      unfold fA at h
      rw [if_pos (by omega), if_pos (by omega)] at h
      omega
  · intro h; rw [h]
theorem v_acmp_eq (F : Fx w G cc own nL rt rm) {a b off : Int} {tgt : Nat} (hd : decode cc pc = .ok (.if_acmp .eq off, 3)) (ht : (pc : Int) + off = (tgt : Int)) (ha : 0 ≤ a) (hb : 0 ≤ b) (kt : a = b → V w l X G Q d m kc ks tgt L S) (kf : ¬ a = b → V w l X G Q d m kc ks (pc + 3) L S) : V w l X G Q d m kc ks pc L (mA b :: mA a :: S) := by
  intro hv hx hl hs H locs lsR hH hlo hL
  simp only [List.map_cons, eV, eR_rf]
  exact lv_acmp_eq F.1 F.2.1 hd ht (fun h => kt ((fA_inj ha hb).mp h) hv hx hl hs.2.2 H locs lsR hH hlo hL) (fun h => kf (fun q => h ((fA_inj ha hb).mpr q)) hv hx hl hs.2.2 H locs lsR hH hlo hL)
theorem v_acmp_ne (F : Fx w G cc own nL rt rm) {a b off : Int} {tgt : Nat} (hd : decode cc pc = .ok (.if_acmp .ne off, 3)) (ht : (pc : Int) + off = (tgt : Int)) (ha : 0 ≤ a) (hb : 0 ≤ b) (kt : ¬ a = b → V w l X G Q d m kc ks tgt L S) (kf : a = b → V w l X G Q d m kc ks (pc + 3) L S) : V w l X G Q d m kc ks pc L (mA b :: mA a :: S) := by
  intro hv hx hl hs H locs lsR hH hlo hL
  simp only [List.map_cons, eV, eR_rf]
  exact lv_acmp_ne F.1 F.2.1 hd ht (fun h => kt (fun q => h ((fA_inj ha hb).mpr q)) hv hx hl hs.2.2 H locs lsR hH hlo hL) (fun h => kf ((fA_inj ha hb).mp h) hv hx hl hs.2.2 H locs lsR hH hlo hL)
/-- what holds of the numbers may be used -/
theorem v_fact (k : VT w d m → X d m → cns L → cns S → V w l X G Q d m kc ks pc L S) : V w l X G Q d m kc ks pc L S := fun hv hx hl hs => k hv hx hl hs hv hx hl hs
end VR
