/-! LEVEL 1: methods that may throw the one fault (the cell 11) -/
def QVx (w : Wd) (X : Dt → Dt → Prop) (o : Option (Option MV)) (d' m' : Dt) : Array Value → State → Outcome → State → Prop := fun a st oc t => ∃ out, o = some out ∧ QV w X out d' m' a st oc t
def XCx (w : Wd) (X : Dt → Dt → Prop) (o : Option (Option MV)) (d' m' : Dt) : Addr → String → State → State → Prop := fun q E _ t => o = none ∧ q = fA w 11 ∧ E = "ElectionHouse$Fault" ∧ RH w d' m' t.heap ∧ VT w d' m' ∧ X d' m'
abbrev QX (w : Wd) (G : Cx) (X : Dt → Dt → Prop) (o : Option (Option MV)) (d' m' : Dt) : State → Prop := vx_MQ G.2.2.2.2.2.2.1 (QVx w X o d' m') (XCx w X o d' m') G.2.2.2.2.2.1 G.2.2.2.1 0 0 (fun q => w.1.size ≤ q)
/-- the contract of a method that may throw: o = none where it throws -/
def VMX (w : Wd) (l : Launch) (X : Dt → Dt → Prop) (y : MethodName) (cc : ByteArray) (nL : Nat) (rt : Option FieldType) (fr lo : Nat) (d m : Dt) (as : List MV) (o : Option (Option MV)) (d' m' : Dt) : Prop :=
  VT w d m → X d m → cns as → ∀ H0 : Heap, RH w d m H0 → vx_Met l y (ws_ y cc nL rt) { frames := fr, cells := 0, slots := 0, locals := lo } (va_Pc (as.map (eV w)) (fun U => U.heap = H0 ∧ KU w U)) (QVx w X o d' m') (XCx w X o d' m') 0 0 (fun q => w.1.size ≤ q)
/-- the fault is thrown over the frame -/
def VX (w : Wd) (l : Launch) (X : Dt → Dt → Prop) (G : Cx) (Q : State → Prop) (d m : Dt) (pc : Nat) (L : List MV) : Prop :=
  VT w d m → X d m → cns L → ∀ (H : Heap) (locs : List Loc) (lsR : Array Slot) (rest : List Value), RH w d m H → (∀ q ∈ locs, w.1.size ≤ q.base) → LR w lsR G.2.2.2.2.2.2.2.2.maxLocals L →
    vx_W G.1 l G.2.1 G.2.2.1 G.2.2.2.1 G.2.2.2.2.1 G.2.2.2.2.2.1 G.2.2.2.2.2.2.1 G.2.2.2.2.2.2.2.1 G.2.2.2.2.2.2.2.2 H locs 0 0 Q (F0 G.2.2.2.2.1 pc lsR rest) (fA w 11)
def NoT (G : Cx) : Prop := ∀ x ∈ G.2.2.2.2.2.2.2.2.exceptionTable.toList, False
section VXR
variable {w : Wd} {l : Launch} {X : Dt → Dt → Prop} {G : Cx} {Q : State → Prop} {d m d' m' : Dt} {pc nL : Nat} {L S : List MV} {cc : ByteArray} {own : String} {rt : Option FieldType} {rm : Room} {idx : Nat} {y : MethodName} {bytes : ByteArray} {maxL n fr lo : Nat} {ret : Option FieldType} {as : List MV} {out : Option MV}
theorem v_xret (k : V w l X G (QM w G X out d' m' 0 0) d m 0 0 pc L S) : V w l X G (QX w G X (some out) d' m') d m 0 0 pc L S := by
  intro hv hx hl hs H locs lsR hH hlo hL
  refine vx_ret ?_
  intro T hT Y
  obtain ⟨t, a1, o, b1, b2, b3, b4⟩ := k hv hx hl hs H locs lsR hH hlo hL T hT Y
  exact ⟨t, a1, o, b1, b2, ⟨out, rfl, b3⟩, b4⟩
theorem v_leave (F : Fx w G cc own nL rt rm) (hT : NoT G) (ho : OB m 11 3) : VX w l X G (QX w G X none d m) d m pc L := by
  intro hv hx hl H locs lsR rest hH hlo hL
  obtain ⟨f1, f2, f3, f4, f5, f6, f7, f8, f9⟩ := F
  obtain ⟨cell, z1, z2, z3, z4⟩ := (hH.2.2 11 ho.1 (hv.lt (by rw [ho.2]; omega))).1 3 ho.2 (by omega)
  obtain ⟨hS1, hfc, kC, hkC, hkind⟩ := f6.1.1 3 _ rfl
  exact vx_out (E := "ElectionHouse$Fault") (ce := cell) (fun x hx => (hT x hx).elim) f8 z1 z3 (by rw [z2]; exact hfc) (fun t ht hW => ⟨rfl, rfl, rfl, by rw [ht]; exact hH, hv, hx⟩) hlo (Nat.le_refl _) (Nat.le_refl _)
theorem v_athrow (F : Fx w G cc own nL rt rm) (hd : decode cc pc = .ok (.athrow, 1)) (k : VX w l X G Q d m pc L) : V w l X G Q d m 0 0 pc L (mA 11 :: S) := by
  intro hv hx hl hs H locs lsR hH hlo hL
  show W _ _ _ _ _ _ _ _ _ _ _ _ _ _ _ (F0 _ pc lsR (eR w 11 :: _))
  rw [eR_pos (by decide)]
  exact vx_athrow F.1 F.2.1 hd (k hv hx hl H locs lsR _ hH hlo hL)
theorem VMX.of {L : List MV} {o : Option (Option MV)} (hy : plainName y.cls = true) (hL : mPad as nL = L) (hlen : (mExp as).length ≤ nL)
    (h : ∀ G : Cx, Fx w G cc y.cls nL rt { frames := fr, cells := 0, slots := 0, locals := lo } → NoT G → V w l X G (QX w G X o d' m') d m 0 0 0 L []) : VMX w l X y cc nL rt fr lo d m as o d' m' := by
  intro hv hx hc H0 hH
  refine vx_ofW (cc := cc) (maxL := nL) (ret := rt) hy rfl ?_
  intro p e s mt args below meth c s₁ B hml hnt hP
  obtain ⟨rfl, hh, hK⟩ := hP
  have hts := atoms_spec (ws := ws_ y cc nL rt) B.pre
  have hts : ∀ q ∈ lw_all, q.before _ s = true := fun q h => hts q (List.mem_cons_of_mem _ h)
  rw [lg_entry_eq]
  subst hL
  exact h (p, e, _, s, mt, _, below, meth, c) ⟨B.exec, B.bytes, hml, findClass_of_methodNamed B.named, hts, hK, B.returns, B.notSynchronized, rfl⟩ hnt hv hx (cns_app (cns_exp hc) (cns_rep _)) trivial s.heap [] _ (by rw [hh]; exact hH) (fun q hq => by cases hq) (by show LR w _ c.maxLocals _; rw [hml]; exact LR.entry hlen)
def CVL (own : String) (idx : Nat) (y : MethodName) (bytes : ByteArray) (maxL : Nat) (ret : Option FieldType) (n : Nat) : Prop :=
  Cond.methodLink own idx y ∈ lw_all ∧ Cond.instanceMethod y ∈ lw_all ∧ Cond.selects y.cls y y ∈ lw_all ∧ Cond.initialized y.cls ∈ lw_all ∧ Cond.code y bytes maxL ret ∈ lw_all ∧ CD y n
theorem v_callX (F : Fx w G cc own nL rt rm) {a : Int} {c : Nat} (hd : decode cc pc = .ok (.invokevirtual idx, 3)) (hq : CVL own idx y bytes maxL ret n) (hn : as.length = n) (ho : OB m a c) (hci : c < 20) {T : u_T} {N : Nat} (hcl : k_cl[c]? = some (y.cls, T, N)) {o : Option (Option MV)} (hM : VMX w l X y bytes maxL ret fr lo d m (mA a :: as) o d' m') {S' : List MV} (hS : as.reverse ++ mA a :: S = S') (hr : rOk rm 0 0 fr lo 0 0 maxL S)
    (k : ∀ out, o = some out → V w l X G Q d' m' 0 0 (pc + 3) L (out.toList ++ S)) (kx : o = none → VX w l X G Q d' m' pc L) : V w l X G Q d m 0 0 pc L S' := by
  intro hv hx hl hs H locs lsR hH hlo hL
  subst hS
  obtain ⟨f1, f2, f3, f4, f5, f6, f7, f8, f9⟩ := F
  obtain ⟨r1, r2, r3, r4, r5⟩ := hr
  obtain ⟨q1, q2, q2', q3, q4, q5⟩ := hq
  have hsp : ∀ {a b : List MV}, cns (a ++ b) → cns a ∧ cns b := by
    intro a b h
    induction a with
    | nil => exact ⟨trivial, h⟩
    | cons x a ih => exact ⟨⟨h.1, (ih h.2).1⟩, (ih h.2).2⟩
  have hrv : ∀ {a : List MV}, cns a.reverse → cns a := by
    intro a
    induction a with
    | nil => exact fun _ => trivial
    | cons x a ih =>
      intro h
      rw [List.reverse_cons] at h
      exact ⟨(hsp h).2.1, ih (hsp h).1⟩
  have hMet := hM hv hx ⟨trivial, hrv (hsp hs).1⟩ H hH
  have eqa : (as.map (eV w)).reverse ++ eV w (mA a) :: S.map (eV w) = (as.reverse ++ mA a :: S).map (eV w) := by simp
  obtain ⟨cell, z1, z2, z3, z4⟩ := (hH.2.2 a ho.1 (hv.lt (by rw [ho.2]; omega))).1 c ho.2 hci
  obtain ⟨hS1, hfc, kC, hkC, hkind⟩ := f6.1.1 c _ hcl
  have hea : eV w (mA a) = .ref (fA w a) := eR_pos ho.1
  have hp : PreV G.2.2.2.1 H y.cls (fA w a) (va_Pc ((mA a :: as).map (eV w)) (fun U => U.heap = H ∧ KU w U)) (as.map (eV w)) := ⟨blindK, ⟨cell, z1, by rw [z3]; rfl, by rw [z2]; exact hfc⟩, fun U hU hW => ⟨by rw [List.map_cons, hea], hU, KU.moved hW f6⟩⟩
  have hroom : 2 * (F0 G.2.2.2.2.1 pc lsR ((as.reverse ++ mA a :: S).map (eV w))).monitorRoom + ((S.map (eV w)).map fun v => v.category).sum ≤ 8 := lv_room (by rw [cat_ok]; exact r5)
  have hstk : (F0 G.2.2.2.2.1 pc lsR ((as.reverse ++ mA a :: S).map (eV w))).stack = (as.map (eV w)).reverse ++ .ref (fA w a) :: S.map (eV w) := by rw [← hea]; exact eqa.symm
  have hfix : CallFix G.1 G.2.2.2.2.1 G.2.2.2.2.2.2.2.2 cc nL G.2.2.2.1 G.2.2.2.2.2.1 lw_all own := ⟨f1, f2, f3, f4, f5⟩
  have hlen2 : (as.map (eV w)).length = n := by rw [List.length_map]; exact hn
  intro T hT Y
  rcases vx_runV (locs := locs) hfix hMet (cwV n f5 (lw_V q1 q2 q2' q3 q4) rfl rfl rfl ⟨rfl, q5⟩ ⟨by rw [f9]; exact r1, by rw [f9]; exact r2⟩) hp rfl hlen2 (hL.1.trans f3) hstk hroom hd ⟨by rw [f9]; exact r3, by rw [f9]; exact r4⟩ T hT Y with ⟨v, st₀, t, T', L', h0, Y', hL', e1, e2, ⟨out, ho2, q1, q2, q3, q4, q5⟩, st⟩ | ⟨q, st₀, t, T', L', E, ce, h0, Y', hL', e1, e2, ⟨ho2, hq2, hE, q2, q3, q4⟩, hce, hcv, hcl2, st⟩
  · cases Outcome.returned.inj q1
    have h := k out ho2 q3 q4 hl (by
      cases out with
      | none => exact (hsp hs).2.2
      | some v => exact ⟨q5 v rfl, (hsp hs).2.2⟩) t.heap (locs ++ L') lsR q2 (fun q hq => (List.mem_append.mp hq).elim (hlo q) (hL' q)) hL
    have h9 : W G.1 l G.2.1 G.2.2.1 G.2.2.2.1 G.2.2.2.2.1 G.2.2.2.2.2.1 G.2.2.2.2.2.2.1 G.2.2.2.2.2.2.2.1 G.2.2.2.2.2.2.2.2 t.heap (locs ++ L') 0 0 Q (F0 G.2.2.2.2.1 (pc + 3) lsR ((out.map (eV w)).toList ++ S.map (eV w))) := by
      cases out with
      | none => exact h
      | some v => exact h
    obtain ⟨t2, a1, b1⟩ := h9 T' e1 Y'
    exact ⟨t2, st t2 a1, b1⟩
  · subst hq2
    obtain ⟨t2, a1, b1⟩ := kx ho2 q3 q4 hl t.heap (locs ++ L') lsR (S.map (eV w)) q2 (fun q hq => (List.mem_append.mp hq).elim (hlo q) (hL' q)) hL T' e1 Y'
    exact ⟨t2, st.trans a1, b1⟩
end VXR
/-- a callee that may throw -/
def bx {α : Type} (x : Option (Dt × Option Int)) (t : Dt → Option α) (k : Dt → Int → Option α) : Option α :=
  match x with
  | none => none
  | some (d, none) => t d
  | some (d, some v) => k d v
theorem bx_some {α : Type} {x : Option (Dt × Option Int)} {t : Dt → Option α} {k : Dt → Int → Option α} {r : α} (h : bx x t k = some r) : ∃ d v, x = some (d, v) ∧ (v = none ∧ t d = some r ∨ ∃ z, v = some z ∧ k d z = some r) := by
  unfold bx at h
  match x, h with
  | some (d, none), h => exact ⟨d, none, rfl, Or.inl ⟨rfl, h⟩⟩
  | some (d, some v), h => exact ⟨d, some v, rfl, Or.inr ⟨v, rfl, h⟩⟩
section VXR2
variable {w : Wd} {l : Launch} {X : Dt → Dt → Prop} {G : Cx} {Q : State → Prop} {d m d' m' : Dt} {pc nL : Nat} {L S : List MV} {cc : ByteArray} {own : String} {rt : Option FieldType} {rm : Room} {idx : Nat} {y : MethodName} {bytes : ByteArray} {maxL n fr lo : Nat} {ret : Option FieldType} {as : List MV}
theorem v_callXv (F : Fx w G cc own nL rt rm) {a : Int} {c : Nat} (hd : decode cc pc = .ok (.invokevirtual idx, 3)) (hq : CVL own idx y bytes maxL ret n) (hn : as.length = n) (ho : OB m a c) (hci : c < 20) {T : u_T} {N : Nat} (hcl : k_cl[c]? = some (y.cls, T, N)) {v : MV} (hM : VMX w l X y bytes maxL ret fr lo d m (mA a :: as) (some (some v)) d' m') {S' : List MV} (hS : as.reverse ++ mA a :: S = S') (hr : rOk rm 0 0 fr lo 0 0 maxL S)
    (k : V w l X G Q d' m' 0 0 (pc + 3) L (v :: S)) : V w l X G Q d m 0 0 pc L S' :=
  v_callX F hd hq hn ho hci hcl hM hS hr (fun out e => by cases e; exact k) (fun e => by cases e)
theorem v_callX0 (F : Fx w G cc own nL rt rm) {a : Int} {c : Nat} (hd : decode cc pc = .ok (.invokevirtual idx, 3)) (hq : CVL own idx y bytes maxL ret n) (hn : as.length = n) (ho : OB m a c) (hci : c < 20) {T : u_T} {N : Nat} (hcl : k_cl[c]? = some (y.cls, T, N)) (hM : VMX w l X y bytes maxL ret fr lo d m (mA a :: as) (some none) d' m') {S' : List MV} (hS : as.reverse ++ mA a :: S = S') (hr : rOk rm 0 0 fr lo 0 0 maxL S)
    (k : V w l X G Q d' m' 0 0 (pc + 3) L S) : V w l X G Q d m 0 0 pc L S' :=
  v_callX F hd hq hn ho hci hcl hM hS hr (fun out e => by cases e; exact k) (fun e => by cases e)
theorem v_callXt (F : Fx w G cc own nL rt rm) {a : Int} {c : Nat} (hd : decode cc pc = .ok (.invokevirtual idx, 3)) (hq : CVL own idx y bytes maxL ret n) (hn : as.length = n) (ho : OB m a c) (hci : c < 20) {T : u_T} {N : Nat} (hcl : k_cl[c]? = some (y.cls, T, N)) (hM : VMX w l X y bytes maxL ret fr lo d m (mA a :: as) none d' m') {S' : List MV} (hS : as.reverse ++ mA a :: S = S') (hr : rOk rm 0 0 fr lo 0 0 maxL S)
    (k : VX w l X G Q d' m' pc L) : V w l X G Q d m 0 0 pc L S' :=
  v_callX F hd hq hn ho hci hcl hM hS hr (fun out e => by cases e) (fun _ => k)
end VXR2
/-! a method with one handler, for the fault (read) -/
def hhR : List (Nat × Nat × Nat × Nat) := [(45, 49, 52, 9)]
def HT (G : Cx) : Prop := G.2.2.2.2.2.2.2.2.exceptionTable.toList = tableOf hhR
def VMW (w : Wd) (l : Launch) (X : Dt → Dt → Prop) (y : MethodName) (cc : ByteArray) (nL : Nat) (rt : Option FieldType) (fr lo : Nat) (d m : Dt) (as : List MV) (out : Option MV) (d' m' : Dt) : Prop :=
  VT w d m → X d m → cns as → ∀ H0 : Heap, RH w d m H0 → Met l y (wsW_ y cc nL rt hhR) { frames := fr, cells := 0, slots := 0, locals := lo } (va_Pc (as.map (eV w)) (fun U => U.heap = H0 ∧ KU w U)) (QV w X out d' m') 0 0 (fun q => w.1.size ≤ q)
theorem Met.ofWH {l : Launch} {y : MethodName} {ws ws' : List Cond} {rm : Room} {Pc : Array Value → State → Prop} {Qc : Array Value → State → Outcome → State → Prop} {mc ms : Nat} {free : Addr → Prop} {cc : ByteArray} {maxL : Nat} {ret : Option FieldType} {hh : List (Nat × Nat × Nat × Nat)}
    (hy : plainName y.cls = true) (hw : ws = Cond.codeWith y cc maxL ret hh :: ws')
    (body : ∀ p e s m args below meth c s₁, BodyLoose p l y (headSpec ws rm) cc maxL ret e s m args below meth c s₁ → c.maxLocals = maxL → Pc args s →
      W p l e (headSpec ws rm).room s m args below meth c s.heap [] 0 0 (MQ below Qc args s mc ms free) (entryFrame m args maxL)) : Met l y ws rm Pc Qc mc ms free := by
  refine MetFree.of_bodyS (code := cc) (maxLocals := maxL) (ret := ret) hy ?_ ?_
  · intro args s m h hn
    obtain ⟨m9, meth, c, hn9, h1, h2, h3, h4, -, h5, h6, -⟩ := Cond.codeWith_spec (atoms_spec (ws := ws) h _ (by rw [hw]; exact List.mem_cons_self))
    cases hn.symm.trans hn9
    exact ⟨meth, c, h1, h2, h3, h4, h5, h6⟩
  · intro p e s m args below meth c s₁ B hml hP _
    have hh0 : s₁.heap = s.heap := by rw [B.state]; rfl
    obtain ⟨t, a1, o, b1, b2, b3⟩ := body p e s m args below meth c s₁ B hml hP s₁ hh0 (Stand.of_body B)
    exact ⟨t, o, a1, b1, b2, ⟨b3.1, b3.2⟩⟩
section VXR3
variable {w : Wd} {l : Launch} {X : Dt → Dt → Prop} {G : Cx} {Q : State → Prop} {d m d' m' : Dt} {pc nL : Nat} {L S : List MV} {cc : ByteArray} {own : String} {rt : Option FieldType} {rm : Room} {idx : Nat} {y : MethodName} {bytes : ByteArray} {maxL n fr lo : Nat} {ret : Option FieldType} {as : List MV} {out : Option MV}
theorem VMW.of {L : List MV} (hy : plainName y.cls = true) (hL : mPad as nL = L) (hlen : (mExp as).length ≤ nL)
    (h : ∀ G : Cx, Fx w G cc y.cls nL rt { frames := fr, cells := 0, slots := 0, locals := lo } → HT G → V w l X G (QM w G X out d' m' 0 0) d m 0 0 0 L []) : VMW w l X y cc nL rt fr lo d m as out d' m' := by
  intro hv hx hc H0 hH
  refine Met.ofWH (cc := cc) (maxL := nL) (ret := rt) (hh := hhR) hy rfl ?_
  intro p e s mt args below meth c s₁ B hml hP
  obtain ⟨rfl, hh, hK⟩ := hP
  have hts := atoms_spec (ws := wsW_ y cc nL rt hhR) B.pre
  have htb : c.exceptionTable.toList = tableOf hhR := vx_table (x := y) B (hts _ List.mem_cons_self)
  have hts : ∀ q ∈ lw_all, q.before _ s = true := fun q h => hts q (List.mem_cons_of_mem _ h)
  rw [lg_entry_eq]
  subst hL
  exact h (p, e, _, s, mt, _, below, meth, c) ⟨B.exec, B.bytes, hml, findClass_of_methodNamed B.named, hts, hK, B.returns, B.notSynchronized, rfl⟩ htb hv hx (cns_app (cns_exp hc) (cns_rep _)) trivial s.heap [] _ (by rw [hh]; exact hH) (fun q hq => by cases hq) (by show LR w _ c.maxLocals _; rw [hml]; exact LR.entry hlen)
theorem v_catch (F : Fx w G cc "ElectionHouse$Reader" nL rt rm) (hT : HT G) (ho : OB m 11 3) (k : V w l X G Q d m 0 0 52 L [mA 11]) : VX w l X G Q d m 46 L := by
  intro hv hx hl H locs lsR rest hH hlo hL
  obtain ⟨f1, f2, f3, f4, f5, f6, f7, f8, f9⟩ := F
  obtain ⟨cell, z1, z2, z3, z4⟩ := (hH.2.2 11 ho.1 (hv.lt (by rw [ho.2]; omega))).1 3 ho.2 (by omega)
  obtain ⟨hS1, hfc, kC, hkC, hkind⟩ := f6.1.1 3 _ rfl
  refine vx_catch (own := "ElectionHouse$Reader") (name := "ElectionHouse$Fault") (E := "ElectionHouse$Fault") f4 [] _ [] hT (fun z hz => by cases hz) rfl (by decide) (f5 _ q357) (va_tabs (A := #[]) rfl rfl (f6.2.1 _ (List.mem_filter.mpr ⟨q359, rfl⟩))) z1 z3 (by rw [z2]; exact hfc) ?_
  have h := k hv hx hl ⟨trivial, trivial⟩ H locs lsR hH hlo hL
  have he : ([mA 11].map (eV w)) = [Value.ref (fA w 11)] := by
    show [eR w 11] = _
    rw [eR_pos (by decide)]
  rw [he] at h
  exact h
def CVR (own : String) (idx : Nat) (y : MethodName) (bytes : ByteArray) (maxL : Nat) (ret : Option FieldType) (n : Nat) : Prop :=
  Cond.methodLink own idx y ∈ lw_all ∧ Cond.instanceMethod y ∈ lw_all ∧ Cond.selects y.cls y y ∈ lw_all ∧ Cond.initialized y.cls ∈ lw_all ∧ Cond.codeWith y bytes maxL ret hhR ∈ lw_all ∧ CD y n
theorem v_callW (F : Fx w G cc own nL rt rm) {a : Int} {c : Nat} (hd : decode cc pc = .ok (.invokevirtual idx, 3)) (hq : CVR own idx y bytes maxL ret n) (hn : as.length = n) (ho : OB m a c) (hci : c < 20) {T : u_T} {N : Nat} (hcl : k_cl[c]? = some (y.cls, T, N)) {v : MV} (hM : VMW w l X y bytes maxL ret fr lo d m (mA a :: as) (some v) d' m') {S' : List MV} (hS : as.reverse ++ mA a :: S = S') (hr : rOk rm 0 0 fr lo 0 0 maxL S)
    (k : V w l X G Q d' m' 0 0 (pc + 3) L (v :: S)) : V w l X G Q d m 0 0 pc L S' := by
  intro hv hx hl hs H locs lsR hH hlo hL
  subst hS
  obtain ⟨f1, f2, f3, f4, f5, f6, f7, f8, f9⟩ := F
  obtain ⟨h1, h2, h3, h4, h5, h6⟩ := hq
  obtain ⟨r1, r2, r3, r4, r5⟩ := hr
  have hsp : ∀ {a b : List MV}, cns (a ++ b) → cns a ∧ cns b := by
    intro a b h
    induction a with
    | nil => exact ⟨trivial, h⟩
    | cons x a ih => exact ⟨⟨h.1, (ih h.2).1⟩, (ih h.2).2⟩
  have hrv : ∀ {a : List MV}, cns a.reverse → cns a := by
    intro a
    induction a with
    | nil => exact fun _ => trivial
    | cons x a ih =>
      intro h
      rw [List.reverse_cons] at h
      exact ⟨(hsp h).2.1, ih (hsp h).1⟩
  have hMet := hM hv hx ⟨trivial, hrv (hsp hs).1⟩ H hH
  have eqa : (as.map (eV w)).reverse ++ eV w (mA a) :: S.map (eV w) = (as.reverse ++ mA a :: S).map (eV w) := by simp
  obtain ⟨cell, z1, z2, z3, z4⟩ := (hH.2.2 a ho.1 (hv.lt (by rw [ho.2]; omega))).1 c ho.2 hci
  obtain ⟨hS1, hfc, kC, hkC, hkind⟩ := f6.1.1 c _ hcl
  have hea : eV w (mA a) = .ref (fA w a) := eR_pos ho.1
  have hp : PreV G.2.2.2.1 H y.cls (fA w a) (va_Pc ((mA a :: as).map (eV w)) (fun U => U.heap = H ∧ KU w U)) (as.map (eV w)) := ⟨blindK, ⟨cell, z1, by rw [z3]; rfl, by rw [z2]; exact hfc⟩, fun U hU hW => ⟨by rw [List.map_cons, hea], hU, KU.moved hW f6⟩⟩
  have hroom : 2 * (F0 G.2.2.2.2.1 pc lsR ((as.reverse ++ mA a :: S).map (eV w))).monitorRoom + ((S.map (eV w)).map fun v => v.category).sum ≤ 8 := lv_room (by rw [cat_ok]; exact r5)
  have hstk : (F0 G.2.2.2.2.1 pc lsR ((as.reverse ++ mA a :: S).map (eV w))).stack = (as.map (eV w)).reverse ++ .ref (fA w a) :: S.map (eV w) := by rw [← hea]; exact eqa.symm
  have hfix : CallFix G.1 G.2.2.2.2.1 G.2.2.2.2.2.2.2.2 cc nL G.2.2.2.1 G.2.2.2.2.2.1 lw_all own := ⟨f1, f2, f3, f4, f5⟩
  have hlen2 : (as.map (eV w)).length = n := by rw [List.length_map]; exact hn
  have hr0 : va_Run G.1 l G.2.1 G.2.2.1 G.2.2.2.1 G.2.2.2.2.1 G.2.2.2.2.2.1 G.2.2.2.2.2.2.1 G.2.2.2.2.2.2.2.1 G.2.2.2.2.2.2.2.2 H locs 0 0 0 0 (F0 G.2.2.2.2.1 pc lsR ((as.reverse ++ mA a :: S).map (eV w))) (S.map (eV w)) (QV w X (some v) d' m' (Value.ref (fA w a) :: as.map (eV w)).toArray) (fun q => w.1.size ≤ q) := vx_runVW (locs := locs) hfix hMet (vx_cwVW (hh := hhR) n f5 (lw_VW h1 h2 h3 h4 h5) rfl rfl rfl ⟨rfl, h6⟩ ⟨by rw [f9]; exact r1, by rw [f9]; exact r2⟩) hp rfl hlen2 (hL.1.trans f3) hstk hroom hd ⟨by rw [f9]; exact r3, by rw [f9]; exact r4⟩
  refine W.callG hr0 fun v0 st₀ t locs1 hl1 hq => ?_
  obtain ⟨q1, q2, q3, q4, q5⟩ := hq
  cases Outcome.returned.inj q1
  exact k q3 q4 hl ⟨q5 v rfl, (hsp hs).2.2⟩ t.heap locs1 lsR q2 (fun q hq => (hl1 q hq).elim (hlo q) id) hL
end VXR3
