section NR
variable {w : Wd} {l : Launch} {X : Dt → Dt → Prop} {G : Cx} {Q : State → Prop} {d m : Dt} {kc ks pc nL : Nat} {L S : List MV} {cc : ByteArray} {own : String} {rt : Option FieldType} {rm : Room}
variable {idx : Nat} {y : MethodName} {bytes : ByteArray} {maxL n fr lo : Nat} {ret : Option FieldType} {as : List MV} {d' m' : Dt}
theorem v_callSv {v : MV} (F : Fx w G cc own nL rt rm) (hd : decode cc pc = .ok (.invokestatic idx, 3)) (hq : CS own idx y bytes maxL ret n) (hn : as.length = n) (hM : VM w l X y bytes maxL ret fr lo 0 0 d m as (some v) d' m') {S' : List MV} (hS : as.reverse ++ S = S') (hr : rOk rm kc ks fr lo 0 0 maxL S)
    (k : V w l X G Q d' m' kc ks (pc + 3) L (v :: S)) : V w l X G Q d m kc ks pc L S' := v_callS F hd hq hn hM hS hr k
theorem v_callS0 (F : Fx w G cc own nL rt rm) (hd : decode cc pc = .ok (.invokestatic idx, 3)) (hq : CS own idx y bytes maxL ret n) (hn : as.length = n) (hM : VM w l X y bytes maxL ret fr lo 0 0 d m as none d' m') {S' : List MV} (hS : as.reverse ++ S = S') (hr : rOk rm kc ks fr lo 0 0 maxL S)
    (k : V w l X G Q d' m' kc ks (pc + 3) L S) : V w l X G Q d m kc ks pc L S' := v_callS F hd hq hn hM hS hr k
theorem v_callVv {v : MV} (F : Fx w G cc own nL rt rm) {a : Int} {c : Nat} (hd : decode cc pc = .ok (.invokevirtual idx, 3)) (hq : CV own idx y bytes maxL ret n) (hn : as.length = n) (ho : OB m a c) (hci : c < 20) {T : u_T} {N : Nat} (hcl : k_cl[c]? = some (y.cls, T, N)) (hM : VM w l X y bytes maxL ret fr lo 0 0 d m (mA a :: as) (some v) d' m') {S' : List MV} (hS : as.reverse ++ mA a :: S = S') (hr : rOk rm kc ks fr lo 0 0 maxL S)
    (k : V w l X G Q d' m' kc ks (pc + 3) L (v :: S)) : V w l X G Q d m kc ks pc L S' := v_callV F hd hq hn ho hci hcl hM hS hr k
theorem v_callV0 (F : Fx w G cc own nL rt rm) {a : Int} {c : Nat} (hd : decode cc pc = .ok (.invokevirtual idx, 3)) (hq : CV own idx y bytes maxL ret n) (hn : as.length = n) (ho : OB m a c) (hci : c < 20) {T : u_T} {N : Nat} (hcl : k_cl[c]? = some (y.cls, T, N)) (hM : VM w l X y bytes maxL ret fr lo 0 0 d m (mA a :: as) none d' m') {S' : List MV} (hS : as.reverse ++ mA a :: S = S') (hr : rOk rm kc ks fr lo 0 0 maxL S)
    (k : V w l X G Q d' m' kc ks (pc + 3) L S) : V w l X G Q d m kc ks pc L S' := v_callV F hd hq hn ho hci hcl hM hS hr k
end NR
theorem Met.ofWF {l : Launch} {y : MethodName} {ws ws' : List Cond} {rm : Room} {Pc : Array Value → State → Prop} {Qc : Array Value → State → Outcome → State → Prop} {mc ms : Nat} {free : Addr → Prop} {cc : ByteArray} {maxL : Nat} {ret : Option FieldType}
    (hy : plainFor y = true) (hw : ws = Cond.code y cc maxL ret :: ws')
    (body : ∀ p e s m args below meth c s₁, BodyLoose p l y (headSpec ws rm) cc maxL ret e s m args below meth c s₁ → c.maxLocals = maxL → Pc args s →
      W p l e (headSpec ws rm).room s m args below meth c s.heap [] 0 0 (MQ below Qc args s mc ms free) (entryFrame m args maxL)) : Met l y ws rm Pc Qc mc ms free := by
  refine MetFree.of_bodySF (code := cc) (maxLocals := maxL) (ret := ret) hy ?_ ?_
  · intro args s m h hn
    obtain ⟨meth, c, h1, h2, h3, h4, h5, h6, -, -⟩ := Cond.code_spec hn (atoms_spec (ws := ws) h _ (by rw [hw]; exact List.mem_cons_self))
    exact ⟨meth, c, h1, h2, h3, h4, h5, h6⟩
  · intro p e s m args below meth c s₁ B hml hP _
    have hh0 : s₁.heap = s.heap := by rw [B.state]; rfl
    obtain ⟨t, a1, o, b1, b2, b3⟩ := body p e s m args below meth c s₁ B hml hP s₁ hh0 (Stand.of_body B)
    exact ⟨t, o, a1, b1, b2, ⟨b3.1, b3.2⟩⟩
theorem VM.ofF {w : Wd} {l : Launch} {X : Dt → Dt → Prop} {y : MethodName} {cc : ByteArray} {nL : Nat} {rt : Option FieldType} {fr lo mc ms : Nat} {d m d' m' : Dt} {as : List MV} {out : Option MV} {L : List MV} (hy : plainFor y = true) (hL : mPad as nL = L) (hlen : (mExp as).length ≤ nL)
    (h : ∀ G : Cx, Fx w G cc y.cls nL rt { frames := fr, cells := mc, slots := ms, locals := lo } → G.2.2.2.2.2.2.2.1.name = y.name → V w l X G (QM w G X out d' m' mc ms) d m 0 0 0 L []) : VM w l X y cc nL rt fr lo mc ms d m as out d' m' := by
  intro hv hx hc H0 hH
  refine Met.ofWF (cc := cc) (maxL := nL) (ret := rt) hy rfl ?_
  intro p e s mt args below meth c s₁ B hml hP
  obtain ⟨rfl, hh, hK⟩ := hP
  have hts := atoms_spec (ws := ws_ y cc nL rt) B.pre
  have hts : ∀ q ∈ lw_all, q.before _ s = true := fun q h => hts q (List.mem_cons_of_mem _ h)
  rw [lg_entry_eq]
  subst hL
  exact h (p, e, _, s, mt, _, below, meth, c) ⟨B.exec, B.bytes, hml, findClass_of_methodNamed B.named, hts, hK, B.returns, B.notSynchronized, rfl⟩ (name_of_methodNamed B.named B.method).1 hv hx (cns_app (cns_exp hc) (cns_rep _)) trivial s.heap [] _ (by rw [hh]; exact hH) (fun q hq => by cases hq) (by show LR w _ c.maxLocals _; rw [hml]; exact LR.entry hlen)
def mLe : List MV → List MV → Prop
  | [], [] => True
  | u :: a, v :: b => (u = v ∨ u = mU) ∧ mLe a b
  | _, _ => False
theorem mLe_ok : ∀ {A B : List MV}, mLe A B → A.length = B.length ∧ (cns B → cns A) ∧ ∀ (i : Nat) (v : MV), A[i]? = some v → v ≠ mU → B[i]? = some v
  | [], [], _ => ⟨rfl, id, fun _ _ h _ => h⟩
  | u :: a, v :: b, h => by
    obtain ⟨h1, h2⟩ := h
    obtain ⟨k1, k2, k3⟩ := mLe_ok h2
    refine ⟨by simp [k1], fun hc => ⟨?_, k2 hc.2⟩, fun i x hx hv => ?_⟩
    · rcases h1 with rfl | rfl
      · exact hc.1
      · trivial
    · cases i with
      | zero =>
        rcases h1 with rfl | rfl
        · exact hx
        · exact absurd (Option.some.inj hx).symm hv
      | succ i => exact k3 i x (by simpa using hx) hv
  | [], _ :: _, h => h.elim
  | _ :: _, [], h => h.elim
/-- what a local holds may be forgotten -/
theorem v_fgt {w : Wd} {l : Launch} {X : Dt → Dt → Prop} {G : Cx} {Q : State → Prop} {d m : Dt} {kc ks pc : Nat} {L L' S : List MV} (h : mLe L' L) (k : V w l X G Q d m kc ks pc L' S) : V w l X G Q d m kc ks pc L S := by
  intro hv hx hl hs H locs lsR hH hlo hL
  obtain ⟨k1, k2, k3⟩ := mLe_ok h
  exact k hv hx (k2 hl) hs H locs lsR hH hlo ⟨hL.1, hL.2.1, k1.trans hL.2.2.1, fun i v hi hv => hL.2.2.2 i v (k3 i v hi hv) hv⟩
