/-! LEVEL 1: returns, contracts, calls -/
def QV (w : Wd) (X : Dt → Dt → Prop) (out : Option MV) (d' m' : Dt) : Array Value → State → Outcome → State → Prop := fun _ _ o t => o = .returned (out.map (eV w)) ∧ RH w d' m' t.heap ∧ VT w d' m' ∧ X d' m' ∧ (∀ v, out = some v → cn v)
abbrev QM (w : Wd) (G : Cx) (X : Dt → Dt → Prop) (out : Option MV) (d' m' : Dt) (mc ms : Nat) : State → Prop := MQ G.2.2.2.2.2.2.1 (QV w X out d' m') G.2.2.2.2.2.1 G.2.2.2.1 mc ms (fun q => w.1.size ≤ q)
/-- the contract of a method at these numbers: from (d, m) and these arguments it answers 'out' and leaves (d', m') -/
def VM (w : Wd) (l : Launch) (X : Dt → Dt → Prop) (y : MethodName) (cc : ByteArray) (nL : Nat) (rt : Option FieldType) (fr lo mc ms : Nat) (d m : Dt) (as : List MV) (out : Option MV) (d' m' : Dt) : Prop :=
  VT w d m → X d m → cns as → ∀ H0 : Heap, RH w d m H0 → Met l y (ws_ y cc nL rt) { frames := fr, cells := mc, slots := ms, locals := lo } (va_Pc (as.map (eV w)) (fun U => U.heap = H0 ∧ KU w U)) (QV w X out d' m') mc ms (fun q => w.1.size ≤ q)
section VC
variable {w : Wd} {l : Launch} {X : Dt → Dt → Prop} {G : Cx} {Q : State → Prop} {d m : Dt} {kc ks pc nL : Nat} {L S : List MV} {cc : ByteArray} {own : String} {rt : Option FieldType} {rm : Room}
theorem v_widen {mc ms : Nat} (h1 : kc ≤ mc) (h2 : ks ≤ ms) (k : V w l X G Q d m mc ms pc L S) : V w l X G Q d m kc ks pc L S := fun hv hx hl hs H locs lsR hH hlo hL => W.widen h1 h2 (k hv hx hl hs H locs lsR hH hlo hL)
theorem v_iret (F : Fx w G cc own nL (some .int) rm) {v : Int} (hd : decode cc pc = .ok (.ireturn, 1)) : V w l X G (QM w G X (some (mI v)) d m kc ks) d m kc ks pc L [mI v] := by
  intro hv hx hl hs H locs lsR hH hlo hL
  exact W.iret F.1 F.2.1 F.2.2.2.2.2.2.1 (fun t ht hW => ⟨rfl, by rw [ht]; exact hH, hv, hx, fun v h => by cases h; exact hs.1⟩) hlo hd F.2.2.2.2.2.2.2.1
theorem v_zret (F : Fx w G cc own nL (some .boolean) rm) {v : Int} (hb : v = 0 ∨ v = 1) (hd : decode cc pc = .ok (.ireturn, 1)) : V w l X G (QM w G X (some (mI v)) d m kc ks) d m kc ks pc L [mI v] := by
  intro hv hx hl hs H locs lsR hH hlo hL
  exact W.zret F.1 F.2.1 F.2.2.2.2.2.2.1 (fit_of (ty := .boolean) hb rfl).1 (fun t ht hW => ⟨rfl, by rw [ht]; exact hH, hv, hx, fun v h => by cases h; exact hs.1⟩) hlo hd F.2.2.2.2.2.2.2.1
theorem v_lret (F : Fx w G cc own nL (some .long) rm) {v : Int} (hd : decode cc pc = .ok (.lreturn, 1)) : V w l X G (QM w G X (some (mL v)) d m kc ks) d m kc ks pc L [mL v] := by
  intro hv hx hl hs H locs lsR hH hlo hL
  exact W.lret F.1 F.2.1 F.2.2.2.2.2.2.1 (fun t ht hW => ⟨rfl, by rw [ht]; exact hH, hv, hx, fun v h => by cases h; exact hs.1⟩) hlo hd F.2.2.2.2.2.2.2.1
theorem v_vret (F : Fx w G cc own nL none rm) (hd : decode cc pc = .ok (.return_, 1)) : V w l X G (QM w G X none d m kc ks) d m kc ks pc L [] := by
  intro hv hx hl hs H locs lsR hH hlo hL
  exact W.vret F.1 F.2.1 F.2.2.2.2.2.2.1 (fun t ht hW => ⟨rfl, by rw [ht]; exact hH, hv, hx, fun v h => by cases h⟩) hlo hd F.2.2.2.2.2.2.2.1
theorem v_aret (F : Fx w G cc own nL rt rm) {v : Int} {ty : FieldType} (hr : rt = some ty) (hty : (∃ n, ty = .object n) ∨ ∃ t, ty = .array t) (hd : decode cc pc = .ok (.areturn, 1)) : V w l X G (QM w G X (some (mA v)) d m kc ks) d m kc ks pc L [mA v] := by
  intro hv hx hl hs H locs lsR hH hlo hL
  exact W.aret F.1 F.2.1 (F.2.2.2.2.2.2.1.trans hr) hty (by rcases @eR_ref w v with q | q; exact Or.inl q; exact Or.inr ⟨_, q⟩) (fun t ht hW => ⟨rfl, by rw [ht]; exact hH, hv, hx, fun v h => by cases h; trivial⟩) hlo hd F.2.2.2.2.2.2.2.1
end VC
/-! entry -/
def mExp : List MV → List MV
  | [] => []
  | .inr (.inl v) :: l => mL v :: mU :: mExp l
  | v :: l => v :: mExp l
def mPad (as : List MV) (n : Nat) : List MV := mExp as ++ List.replicate (n - (mExp as).length) mU
theorem mExp_len {w : Wd} : ∀ as : List MV, (mExp as).length = (lg_sl (as.map (eV w))).length
  | [] => rfl
  | .inl v :: l => by simp only [mExp, List.map_cons, lg_sl, List.flatMap_cons, List.length_append, List.length_cons]; rw [mExp_len (w := w) l]; simp [lg_sl, eV, Value.category]; omega
  | .inr (.inl v) :: l => by simp only [mExp, List.map_cons, lg_sl, List.flatMap_cons, List.length_append, List.length_cons]; rw [mExp_len (w := w) l]; simp [lg_sl, eV, Value.category]; omega
  | .inr (.inr (.inl v)) :: l => by simp only [mExp, List.map_cons, lg_sl, List.flatMap_cons, List.length_append, List.length_cons]; rw [mExp_len (w := w) l]; simp only [eV, eR_cat]; simp [lg_sl]; omega
  | .inr (.inr (.inr v)) :: l => by simp only [mExp, List.map_cons, lg_sl, List.flatMap_cons, List.length_append, List.length_cons]; rw [mExp_len (w := w) l]; simp [lg_sl, eV, Value.category]; omega
theorem mExp_at {w : Wd} : ∀ (as : List MV) (i j : Nat) (u : MV), (mExp as)[j]? = some u → u ≠ mU → (i + j, eV w u) ∈ lv_args i (as.map (eV w))
  | [], _, _, _, h, _ => by simp [mExp] at h
  | .inr (.inl v) :: l, i, j, u, h, hu => by
    simp only [mExp] at h
    simp only [List.map_cons, lv_args]
    match j, h with
    | 0, h => cases (Option.some.inj h); exact List.mem_cons_self
    | 1, h => exact absurd (Option.some.inj h).symm hu
    | j + 2, h =>
      have h1 := mExp_at (w := w) l (i + 2) j u (by simpa using h) hu
      rw [if_pos (show (eV w (.inr (.inl v))).category = 2 from rfl)]
      exact List.mem_cons_of_mem _ (by rw [show i + (j + 2) = i + 2 + j by omega]; exact h1)
  | .inl v :: l, i, j, u, h, hu => by
    simp only [mExp] at h
    simp only [List.map_cons, lv_args]
    match j, h with
    | 0, h => cases (Option.some.inj h); exact List.mem_cons_self
    | j + 1, h =>
      have h1 := mExp_at (w := w) l (i + 1) j u (by simpa using h) hu
      rw [if_neg (show ¬ (eV w (.inl v)).category = 2 from fun q => by cases q)]
      exact List.mem_cons_of_mem _ (by rw [show i + (j + 1) = i + 1 + j by omega]; exact h1)
  | .inr (.inr (.inl v)) :: l, i, j, u, h, hu => by
    simp only [mExp] at h
    simp only [List.map_cons, lv_args]
    match j, h with
    | 0, h => cases (Option.some.inj h); exact List.mem_cons_self
    | j + 1, h =>
      have h1 := mExp_at (w := w) l (i + 1) j u (by simpa using h) hu
      rw [if_neg (show ¬ (eV w (.inr (.inr (.inl v)))).category = 2 from fun q => by have := eR_cat w v; simp only [eV] at q; omega)]
      exact List.mem_cons_of_mem _ (by rw [show i + (j + 1) = i + 1 + j by omega]; exact h1)
  | .inr (.inr (.inr v)) :: l, i, j, u, h, hu => by
    simp only [mExp] at h
    simp only [List.map_cons, lv_args]
    match j, h with
    | 0, h => exact absurd (Option.some.inj h).symm hu
    | j + 1, h =>
      have h1 := mExp_at (w := w) l (i + 1) j u (by simpa using h) hu
      rw [if_neg (show ¬ (eV w (.inr (.inr (.inr v)))).category = 2 from fun q => by cases q)]
      exact List.mem_cons_of_mem _ (by rw [show i + (j + 1) = i + 1 + j by omega]; exact h1)
theorem cns_app : ∀ {a b : List MV}, cns a → cns b → cns (a ++ b)
  | [], _, _, h => h
  | _ :: _, _, h, h' => ⟨h.1, cns_app h.2 h'⟩
theorem cns_rep : ∀ n : Nat, cns (List.replicate n mU)
  | 0 => trivial
  | n + 1 => ⟨trivial, cns_rep n⟩
theorem cns_exp : ∀ {as : List MV}, cns as → cns (mExp as)
  | [], _ => trivial
  | .inl _ :: _, h => ⟨h.1, cns_exp h.2⟩
  | .inr (.inl _) :: _, h => ⟨h.1, trivial, cns_exp h.2⟩
  | .inr (.inr (.inl _)) :: _, h => ⟨h.1, cns_exp h.2⟩
  | .inr (.inr (.inr _)) :: _, h => ⟨h.1, cns_exp h.2⟩
theorem LR.entry {w : Wd} {as : List MV} {nL : Nat} (h : (mExp as).length ≤ nL) : LR w ((lg_sl (as.map (eV w)) ++ List.replicate (nL - (lg_sl (as.map (eV w))).length) Slot.unset).toArray) nL (mPad as nL) := by
  have hl := lv_entry (as.map (eV w)) (n := nL) (by rw [← mExp_len]; exact h)
  refine ⟨hl.1, hl.2.1, by simp only [mPad, List.length_append, List.length_replicate]; omega, fun i v hi hv => ?_⟩
  simp only [mPad] at hi
  rw [List.getElem?_append] at hi
  split at hi
  · have h1 := mExp_at (w := w) as 0 i v hi hv
    rw [Nat.zero_add] at h1
    exact hl.2.2 _ h1
  · rw [List.getElem?_replicate] at hi
    split at hi
    · exact absurd (Option.some.inj hi).symm hv
    · cases hi
theorem VM.of {w : Wd} {l : Launch} {X : Dt → Dt → Prop} {y : MethodName} {cc : ByteArray} {nL : Nat} {rt : Option FieldType} {fr lo mc ms : Nat} {d m d' m' : Dt} {as : List MV} {out : Option MV} {L : List MV} (hy : plainName y.cls = true) (hL : mPad as nL = L) (hlen : (mExp as).length ≤ nL)
    (h : ∀ G : Cx, Fx w G cc y.cls nL rt { frames := fr, cells := mc, slots := ms, locals := lo } → G.2.2.2.2.2.2.2.1.name = y.name → V w l X G (QM w G X out d' m' mc ms) d m 0 0 0 L []) : VM w l X y cc nL rt fr lo mc ms d m as out d' m' := by
  intro hv hx hc H0 hH
  refine Met.ofW (cc := cc) (maxL := nL) (ret := rt) hy rfl ?_
  intro p e s mt args below meth c s₁ B hml hP
  obtain ⟨rfl, hh, hK⟩ := hP
  have hts := atoms_spec (ws := ws_ y cc nL rt) B.pre
  have hts : ∀ q ∈ lw_all, q.before _ s = true := fun q h => hts q (List.mem_cons_of_mem _ h)
  rw [lg_entry_eq]
  subst hL
  exact h (p, e, _, s, mt, _, below, meth, c) ⟨B.exec, B.bytes, hml, findClass_of_methodNamed B.named, hts, hK, B.returns, B.notSynchronized, rfl⟩ (name_of_methodNamed B.named B.method).1 hv hx (cns_app (cns_exp hc) (cns_rep _)) trivial s.heap [] _ (by rw [hh]; exact hH) (fun q hq => by cases hq) (by show LR w _ c.maxLocals _; rw [hml]; exact LR.entry hlen)
/-! calls -/
theorem W.callG {p : Program} {l : Launch} {e : Env} {R : Room} {s : State} {m : MethodId} {args : Array Value} {below : List Frame} {meth : Method} {c : Code} {H : Heap} {locs : List Loc} {cells slots mc ms pc : Nat} {ls : Array Slot} {st0 rest : List Value} {Q : State → Prop} {Qa : State → Outcome → State → Prop} {free : Addr → Prop} (hr : va_Run p l e R s m args below meth c H locs cells slots mc ms (F0 m pc ls st0) rest Qa free)
    (kk : ∀ (v : Option Value) (st₀ t : State) (locs1 : List Loc), (∀ q ∈ locs1, q ∈ locs ∨ free q.base) → Qa st₀ (.returned v) t → W p l e R s m args below meth c t.heap locs1 (cells + mc) (slots + ms) Q (F0 m (pc + 3) ls (v.toList ++ rest))) : W p l e R s m args below meth c H locs cells slots Q (F0 m pc ls st0) := by
  intro T hT X
  obtain ⟨v, st₀, t, T', L, h0, X', hL, e1, e2, hq, hst⟩ := hr T hT X
  obtain ⟨t2, a1, b1⟩ := kk v st₀ t (locs ++ L) (fun q hq => (List.mem_append.mp hq).elim Or.inl (fun h => Or.inr (hL q h))) hq T' e1 X'
  exact ⟨t2, hst t2 a1, b1⟩
theorem blindK {w : Wd} {av : List Value} {H0 : Heap} : FrameBlind (va_Pc av (fun U => U.heap = H0 ∧ KU w U)) := fun _ U g mk h => ⟨h.1, h.2.1, KU.moved (s := U) (U := U.calling g mk _) (State.WarmedH.refl U) h.2.2⟩
/-- what a call asks of the tables: the method by its entry, its code -/
def CD (y : MethodName) (n : Nat) : Prop := y.cls ≠ "java/lang/invoke/MethodHandle" ∧ y.cls ≠ "java/lang/invoke/VarHandle" ∧ (parseMethodDescriptor y.desc).map (fun d => d.parameters.length) = some n
def CS (own : String) (idx : Nat) (y : MethodName) (bytes : ByteArray) (maxL : Nat) (ret : Option FieldType) (n : Nat) : Prop :=
  (Cond.methodLink own idx y ∈ lw_all ∨ ∃ host, Cond.methodLinkNest own idx y host ∈ lw_tbl.filter nestW) ∧ Cond.static y ∈ lw_all ∧ Cond.initialized y.cls ∈ lw_all ∧ Cond.code y bytes maxL ret ∈ lw_all ∧ CD y n
def CV (own : String) (idx : Nat) (y : MethodName) (bytes : ByteArray) (maxL : Nat) (ret : Option FieldType) (n : Nat) : Prop :=
  (Cond.methodLink own idx y ∈ lw_all ∨ ∃ host, Cond.methodLinkNest own idx y host ∈ lw_tbl.filter nestW) ∧ Cond.instanceMethod y ∈ lw_all ∧ Cond.selects y.cls y y ∈ lw_all ∧ Cond.initialized y.cls ∈ lw_all ∧ Cond.code y bytes maxL ret ∈ lw_all ∧ CD y n
def CN_ (own : String) (idx : Nat) (y : MethodName) (bytes : ByteArray) (maxL : Nat) (n : Nat) : Prop :=
  (Cond.methodLink own idx y ∈ lw_all ∨ ∃ host, Cond.methodLinkNest own idx y host ∈ lw_tbl.filter nestW) ∧ y.name = "<init>" ∧ Cond.instanceMethod y ∈ lw_all ∧ Cond.initialized y.cls ∈ lw_all ∧ Cond.code y bytes maxL none ∈ lw_all ∧ CD y n
def cat_ : List MV → Nat
  | [] => 0
  | .inr (.inl _) :: l => 2 + cat_ l
  | _ :: l => 1 + cat_ l
theorem cat_ok (w : Wd) : ∀ S : List MV, ((S.map (eV w)).map fun v => v.category).sum = cat_ S
  | [] => rfl
  | .inl v :: l => by simp only [List.map_cons, List.sum_cons, cat_]; rw [cat_ok w l]; rfl
  | .inr (.inl v) :: l => by simp only [List.map_cons, List.sum_cons, cat_]; rw [cat_ok w l]; rfl
  | .inr (.inr (.inl v)) :: l => by simp only [List.map_cons, List.sum_cons, cat_]; rw [cat_ok w l]; simp only [eV]; rw [eR_cat]
  | .inr (.inr (.inr v)) :: l => by simp only [List.map_cons, List.sum_cons, cat_]; rw [cat_ok w l]; rfl
section VD
variable {w : Wd} {l : Launch} {X : Dt → Dt → Prop} {G : Cx} {Q : State → Prop} {d m d' m' : Dt} {kc ks pc nL : Nat} {L S : List MV} {cc : ByteArray} {own : String} {rt : Option FieldType} {rm : Room} {idx : Nat} {y : MethodName} {bytes : ByteArray} {maxL n fr lo mc ms : Nat} {ret : Option FieldType} {as : List MV} {out : Option MV}
/-- room for a call -/
def rOk (rm : Room) (kc ks fr lo mc ms maxL : Nat) (S : List MV) : Prop := fr + 1 ≤ rm.frames ∧ 8 + (maxL + 11) + lo ≤ rm.locals ∧ kc + mc ≤ rm.cells ∧ ks + ms ≤ rm.slots ∧ cat_ S ≤ 8
theorem v_after (hM : VM w l X y bytes maxL ret fr lo mc ms d m as out d' m') {H : Heap} {lsR : Array Slot} {st0 : List Value} {a : Array Value} {locs : List Loc} (hl : cns L) (hs : cns S) (hlo : ∀ q ∈ locs, w.1.size ≤ q.base) (hL : LR w lsR G.2.2.2.2.2.2.2.2.maxLocals L) (k : V w l X G Q d' m' (kc + mc) (ks + ms) (pc + 3) L (out.toList ++ S))
    (hr : va_Run G.1 l G.2.1 G.2.2.1 G.2.2.2.1 G.2.2.2.2.1 G.2.2.2.2.2.1 G.2.2.2.2.2.2.1 G.2.2.2.2.2.2.2.1 G.2.2.2.2.2.2.2.2 H locs kc ks mc ms (F0 G.2.2.2.2.1 pc lsR st0) (S.map (eV w)) (QV w X out d' m' a) (fun q => w.1.size ≤ q)) :
    W G.1 l G.2.1 G.2.2.1 G.2.2.2.1 G.2.2.2.2.1 G.2.2.2.2.2.1 G.2.2.2.2.2.2.1 G.2.2.2.2.2.2.2.1 G.2.2.2.2.2.2.2.2 H locs kc ks Q (F0 G.2.2.2.2.1 pc lsR st0) := by
  refine W.callG hr fun v st₀ t locs1 hl1 hq => ?_
  obtain ⟨q1, q2, q3, q4, q5⟩ := hq
  cases Outcome.returned.inj q1
  have h := k q3 q4 hl (by
    cases out with
    | none => exact hs
    | some v => exact ⟨q5 v rfl, hs⟩) t.heap locs1 lsR q2 (fun q hq => (hl1 q hq).elim (hlo q) id) hL
  cases out with
  | none => exact h
  | some v => exact h
theorem v_callS (F : Fx w G cc own nL rt rm) (hd : decode cc pc = .ok (.invokestatic idx, 3)) (hq : CS own idx y bytes maxL ret n) (hn : as.length = n) (hM : VM w l X y bytes maxL ret fr lo mc ms d m as out d' m') {S' : List MV} (hS : as.reverse ++ S = S') (hr : rOk rm kc ks fr lo mc ms maxL S)
    (k : V w l X G Q d' m' (kc + mc) (ks + ms) (pc + 3) L (out.toList ++ S)) : V w l X G Q d m kc ks pc L S' := by
  intro hv hx hl hs H locs lsR hH hlo hL
  subst hS
  obtain ⟨f1, f2, f3, f4, f5, f6, f7, f8, f9⟩ := F
  obtain ⟨r1, r2, r3, r4, r5⟩ := hr
  obtain ⟨q1, q2, q3, q4, q5⟩ := hq
  have hsp : ∀ {a b : List MV}, cns (a ++ b) → cns a ∧ cns b := by
    intro a b h
    induction a with
    | nil => exact ⟨trivial, h⟩
    | cons x a ih => exact ⟨⟨h.1, (ih h.2).1⟩, (ih h.2).2⟩
  have hrv : ∀ {a : List MV}, cns a.reverse → cns a := by
    intro a
    induction a with
    | nil => exact fun _ => trivial
    | cons x a ih =>
      intro h
      rw [List.reverse_cons] at h
      exact ⟨(hsp h).2.1, ih (hsp h).1⟩
  have hMet := hM hv hx (hrv (hsp hs).1) H hH
  refine v_after hM hl (hsp hs).2 hlo hL k (st0 := _) (a := (as.map (eV w)).toArray) ?_
  have hp : PreS G.2.2.2.1 H (va_Pc (as.map (eV w)) (fun U => U.heap = H ∧ KU w U)) (as.map (eV w)) := ⟨blindK, fun U hU hW => ⟨rfl, hU, KU.moved hW f6⟩⟩
  have hroom : 2 * (F0 G.2.2.2.2.1 pc lsR ((as.reverse ++ S).map (eV w))).monitorRoom + ((S.map (eV w)).map fun v => v.category).sum ≤ 8 := lv_room (by rw [cat_ok]; exact r5)
  have hstk : (F0 G.2.2.2.2.1 pc lsR ((as.reverse ++ S).map (eV w))).stack = (as.map (eV w)).reverse ++ S.map (eV w) := by simp
  have hfix : CallFix G.1 G.2.2.2.2.1 G.2.2.2.2.2.2.2.2 cc nL G.2.2.2.1 G.2.2.2.2.2.1 lw_all own := ⟨f1, f2, f3, f4, f5⟩
  have hlen2 : (as.map (eV w)).length = n := by rw [List.length_map]; exact hn
  rcases q1 with q1 | ⟨host, q1⟩
  · exact va_runS hfix hMet (va_cwS n f5 (lw_S q1 q2 q3 q4) rfl rfl rfl q5 ⟨by rw [f9]; exact r1, by rw [f9]; exact r2⟩) hp rfl hlen2 (hL.1.trans f3) hstk hroom hd ⟨by rw [f9]; exact r3, by rw [f9]; exact r4⟩
  · exact va_runSN hfix hMet ⟨va_cnB n f5 (lw_meth q4) rfl rfl rfl (f6.2.1 _ q1) (f5 _ q3) q5 ⟨by rw [f9]; exact r1, by rw [f9]; exact r2⟩, f5 _ q2, trivial⟩ hp rfl hlen2 (hL.1.trans f3) hstk hroom hd ⟨by rw [f9]; exact r3, by rw [f9]; exact r4⟩
theorem v_callV (F : Fx w G cc own nL rt rm) {a : Int} {c : Nat} (hd : decode cc pc = .ok (.invokevirtual idx, 3)) (hq : CV own idx y bytes maxL ret n) (hn : as.length = n) (ho : OB m a c) (hci : c < 20) {T : u_T} {N : Nat} (hcl : k_cl[c]? = some (y.cls, T, N)) (hM : VM w l X y bytes maxL ret fr lo mc ms d m (mA a :: as) out d' m') {S' : List MV} (hS : as.reverse ++ mA a :: S = S') (hr : rOk rm kc ks fr lo mc ms maxL S)
    (k : V w l X G Q d' m' (kc + mc) (ks + ms) (pc + 3) L (out.toList ++ S)) : V w l X G Q d m kc ks pc L S' := by
  intro hv hx hl hs H locs lsR hH hlo hL
  subst hS
  obtain ⟨f1, f2, f3, f4, f5, f6, f7, f8, f9⟩ := F
  obtain ⟨r1, r2, r3, r4, r5⟩ := hr
  obtain ⟨q1, q2, q2', q3, q4, q5⟩ := hq
  have hsp : ∀ {a b : List MV}, cns (a ++ b) → cns a ∧ cns b := by
    intro a b h
    induction a with
    | nil => exact ⟨trivial, h⟩
    | cons x a ih => exact ⟨⟨h.1, (ih h.2).1⟩, (ih h.2).2⟩
  have hrv : ∀ {a : List MV}, cns a.reverse → cns a := by
    intro a
    induction a with
    | nil => exact fun _ => trivial
    | cons x a ih =>
      intro h
      rw [List.reverse_cons] at h
      exact ⟨(hsp h).2.1, ih (hsp h).1⟩
  have hMet := hM hv hx ⟨trivial, hrv (hsp hs).1⟩ H hH
  have eqa : (as.map (eV w)).reverse ++ eV w (mA a) :: S.map (eV w) = (as.reverse ++ mA a :: S).map (eV w) := by simp
  refine v_after hM hl (hsp hs).2.2 hlo hL k (st0 := _) (a := (Value.ref (fA w a) :: as.map (eV w)).toArray) ?_
  obtain ⟨cell, z1, z2, z3, z4⟩ := (hH.2.2 a ho.1 (hv.lt (by rw [ho.2]; omega))).1 c ho.2 hci
  obtain ⟨hS1, hfc, kC, hkC, hkind⟩ := f6.1.1 c _ hcl
  have hea : eV w (mA a) = .ref (fA w a) := eR_pos ho.1
  have hp : PreV G.2.2.2.1 H y.cls (fA w a) (va_Pc ((mA a :: as).map (eV w)) (fun U => U.heap = H ∧ KU w U)) (as.map (eV w)) := ⟨blindK, ⟨cell, z1, by rw [z3]; rfl, by rw [z2]; exact hfc⟩, fun U hU hW => ⟨by rw [List.map_cons, hea], hU, KU.moved hW f6⟩⟩
  have hroom : 2 * (F0 G.2.2.2.2.1 pc lsR ((as.reverse ++ mA a :: S).map (eV w))).monitorRoom + ((S.map (eV w)).map fun v => v.category).sum ≤ 8 := lv_room (by rw [cat_ok]; exact r5)
  have hstk : (F0 G.2.2.2.2.1 pc lsR ((as.reverse ++ mA a :: S).map (eV w))).stack = (as.map (eV w)).reverse ++ .ref (fA w a) :: S.map (eV w) := by rw [← hea]; exact eqa.symm
  have hfix : CallFix G.1 G.2.2.2.2.1 G.2.2.2.2.2.2.2.2 cc nL G.2.2.2.1 G.2.2.2.2.2.1 lw_all own := ⟨f1, f2, f3, f4, f5⟩
  have hlen2 : (as.map (eV w)).length = n := by rw [List.length_map]; exact hn
  rcases q1 with q1 | ⟨host, q1⟩
  · exact va_runV hfix hMet (cwV n f5 (lw_V q1 q2 q2' q3 q4) rfl rfl rfl ⟨rfl, q5⟩ ⟨by rw [f9]; exact r1, by rw [f9]; exact r2⟩) hp rfl hlen2 (hL.1.trans f3) hstk hroom hd ⟨by rw [f9]; exact r3, by rw [f9]; exact r4⟩
  · exact va_runVN hfix hMet ⟨va_cnB n f5 (lw_meth q4) rfl rfl rfl (f6.2.1 _ q1) (f5 _ q3) q5 ⟨by rw [f9]; exact r1, by rw [f9]; exact r2⟩, f5 _ q2, f5 _ q2'⟩ hp rfl hlen2 (hL.1.trans f3) hstk hroom hd ⟨by rw [f9]; exact r3, by rw [f9]; exact r4⟩
theorem v_callI (F : Fx w G cc own nL rt rm) {a : Int} (hd : decode cc pc = .ok (.invokespecial idx, 3)) (hq : CN_ own idx y bytes maxL n) (hn : as.length = n) (ha : 0 < a) (hM : VM w l X y bytes maxL none fr lo mc ms d m (mA a :: as) none d' m') {S' : List MV} (hS : as.reverse ++ mA a :: S = S') (hr : rOk rm kc ks fr lo mc ms maxL S)
    (k : V w l X G Q d' m' (kc + mc) (ks + ms) (pc + 3) L S) : V w l X G Q d m kc ks pc L S' := by
  intro hv hx hl hs H locs lsR hH hlo hL
  subst hS
  obtain ⟨f1, f2, f3, f4, f5, f6, f7, f8, f9⟩ := F
  obtain ⟨r1, r2, r3, r4, r5⟩ := hr
  obtain ⟨q1, q1', q2, q3, q4, q5⟩ := hq
  have hsp : ∀ {a b : List MV}, cns (a ++ b) → cns a ∧ cns b := by
    intro a b h
    induction a with
    | nil => exact ⟨trivial, h⟩
    | cons x a ih => exact ⟨⟨h.1, (ih h.2).1⟩, (ih h.2).2⟩
  have hrv : ∀ {a : List MV}, cns a.reverse → cns a := by
    intro a
    induction a with
    | nil => exact fun _ => trivial
    | cons x a ih =>
      intro h
      rw [List.reverse_cons] at h
      exact ⟨(hsp h).2.1, ih (hsp h).1⟩
  have hMet := hM hv hx ⟨trivial, hrv (hsp hs).1⟩ H hH
  have eqa : (as.map (eV w)).reverse ++ eV w (mA a) :: S.map (eV w) = (as.reverse ++ mA a :: S).map (eV w) := by simp
  refine v_after (out := none) hM hl (hsp hs).2.2 hlo hL k (st0 := _) (a := (Value.ref (fA w a) :: as.map (eV w)).toArray) ?_
  have hea : eV w (mA a) = .ref (fA w a) := eR_pos ha
  have hp : PreS G.2.2.2.1 H (va_Pc ((mA a :: as).map (eV w)) (fun U => U.heap = H ∧ KU w U)) (.ref (fA w a) :: as.map (eV w)) := ⟨blindK, fun U hU hW => ⟨by rw [List.map_cons, hea], hU, KU.moved hW f6⟩⟩
  have hroom : 2 * (F0 G.2.2.2.2.1 pc lsR ((as.reverse ++ mA a :: S).map (eV w))).monitorRoom + ((S.map (eV w)).map fun v => v.category).sum ≤ 8 := lv_room (by rw [cat_ok]; exact r5)
  have hstk : (F0 G.2.2.2.2.1 pc lsR ((as.reverse ++ mA a :: S).map (eV w))).stack = (as.map (eV w)).reverse ++ .ref (fA w a) :: S.map (eV w) := by rw [← hea]; exact eqa.symm
  have hfix : CallFix G.1 G.2.2.2.2.1 G.2.2.2.2.2.2.2.2 cc nL G.2.2.2.1 G.2.2.2.2.2.1 lw_all own := ⟨f1, f2, f3, f4, f5⟩
  have hlen2 : (as.map (eV w)).length = n := by rw [List.length_map]; exact hn
  rcases q1 with q1 | ⟨host, q1⟩
  · exact va_runI hfix hMet (cwI n f5 (lw_meth q4) rfl rfl rfl (f5 _ q3) (f5 _ q1) (f5 _ q2) q1' q5 ⟨by rw [f9]; exact r1, by rw [f9]; exact r2⟩) hp rfl hlen2 (hL.1.trans f3) hstk hroom hd ⟨by rw [f9]; exact r3, by rw [f9]; exact r4⟩
  · exact va_runIN hfix hMet ⟨va_cnB n f5 (lw_meth q4) rfl rfl rfl (f6.2.1 _ q1) (f5 _ q3) q5 ⟨by rw [f9]; exact r1, by rw [f9]; exact r2⟩, q1', f5 _ q2⟩ hp rfl hlen2 (hL.1.trans f3) hstk hroom hd ⟨by rw [f9]; exact r3, by rw [f9]; exact r4⟩
end VD
