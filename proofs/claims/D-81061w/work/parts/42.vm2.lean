/-! contracts whose word differs at the start and at the end -/
def VM2 (w : Wd) (l : Launch) (X Y : Dt → Dt → Prop) (y : MethodName) (cc : ByteArray) (nL : Nat) (rt : Option FieldType) (fr lo mc ms : Nat) (d m : Dt) (as : List MV) (out : Option MV) (d' m' : Dt) : Prop :=
  VT w d m → X d m → cns as → ∀ H0 : Heap, RH w d m H0 → Met l y (ws_ y cc nL rt) { frames := fr, cells := mc, slots := ms, locals := lo } (va_Pc (as.map (eV w)) (fun U => U.heap = H0 ∧ KU w U)) (QV w Y out d' m') mc ms (fun q => w.1.size ≤ q)
theorem VM2.of {w : Wd} {l : Launch} {X Y : Dt → Dt → Prop} {y : MethodName} {cc : ByteArray} {nL : Nat} {rt : Option FieldType} {fr lo mc ms : Nat} {d m d' m' : Dt} {as : List MV} {out : Option MV} {L : List MV} (hy : plainName y.cls = true) (hL : mPad as nL = L) (hlen : (mExp as).length ≤ nL)
    (h : ∀ G : Cx, Fx w G cc y.cls nL rt { frames := fr, cells := mc, slots := ms, locals := lo } → G.2.2.2.2.2.2.2.1.name = y.name → V w l X G (QM w G Y out d' m' mc ms) d m 0 0 0 L []) : VM2 w l X Y y cc nL rt fr lo mc ms d m as out d' m' := by
  intro hv hx hc H0 hH
  refine Met.ofW (cc := cc) (maxL := nL) (ret := rt) hy rfl ?_
  intro p e s mt args below meth c s₁ B hml hP
  obtain ⟨rfl, hh, hK⟩ := hP
  have hts := atoms_spec (ws := ws_ y cc nL rt) B.pre
  have hts : ∀ q ∈ lw_all, q.before _ s = true := fun q h => hts q (List.mem_cons_of_mem _ h)
  rw [lg_entry_eq]
  subst hL
  exact h (p, e, _, s, mt, _, below, meth, c) ⟨B.exec, B.bytes, hml, findClass_of_methodNamed B.named, hts, hK, B.returns, B.notSynchronized, rfl⟩ (name_of_methodNamed B.named B.method).1 hv hx (cns_app (cns_exp hc) (cns_rep _)) trivial s.heap [] _ (by rw [hh]; exact hH) (fun q hq => by cases hq) (by show LR w _ c.maxLocals _; rw [hml]; exact LR.entry hlen)
section V2
variable {w : Wd} {l : Launch} {X Y : Dt → Dt → Prop} {G : Cx} {Q : State → Prop} {d m d' m' : Dt} {kc ks pc nL : Nat} {L S : List MV} {cc : ByteArray} {own : String} {rt : Option FieldType} {rm : Room} {idx : Nat} {y : MethodName} {bytes : ByteArray} {maxL n fr lo mc ms : Nat} {ret : Option FieldType} {as : List MV} {out : Option MV}
theorem v_X (h : VT w d m → X d m → Y d m) (k : V w l Y G Q d m kc ks pc L S) : V w l X G Q d m kc ks pc L S := fun hv hx => k hv (h hv hx)
theorem v_after2 {H : Heap} {lsR : Array Slot} {st0 : List Value} {a : Array Value} {locs : List Loc} (hl : cns L) (hs : cns S) (hlo : ∀ q ∈ locs, w.1.size ≤ q.base) (hL : LR w lsR G.2.2.2.2.2.2.2.2.maxLocals L) (k : V w l Y G Q d' m' (kc + mc) (ks + ms) (pc + 3) L (out.toList ++ S))
    (hr : va_Run G.1 l G.2.1 G.2.2.1 G.2.2.2.1 G.2.2.2.2.1 G.2.2.2.2.2.1 G.2.2.2.2.2.2.1 G.2.2.2.2.2.2.2.1 G.2.2.2.2.2.2.2.2 H locs kc ks mc ms (F0 G.2.2.2.2.1 pc lsR st0) (S.map (eV w)) (QV w Y out d' m' a) (fun q => w.1.size ≤ q)) :
    W G.1 l G.2.1 G.2.2.1 G.2.2.2.1 G.2.2.2.2.1 G.2.2.2.2.2.1 G.2.2.2.2.2.2.1 G.2.2.2.2.2.2.2.1 G.2.2.2.2.2.2.2.2 H locs kc ks Q (F0 G.2.2.2.2.1 pc lsR st0) := by
  refine W.callG hr fun v st₀ t locs1 hl1 hq => ?_
  obtain ⟨q1, q2, q3, q4, q5⟩ := hq
  cases Outcome.returned.inj q1
  have h := k q3 q4 hl (by
    cases out with
    | none => exact hs
    | some v => exact ⟨q5 v rfl, hs⟩) t.heap locs1 lsR q2 (fun q hq => (hl1 q hq).elim (hlo q) id) hL
  cases out with
  | none => exact h
  | some v => exact h
theorem v_callI2 (F : Fx w G cc own nL rt rm) {a : Int} (hd : decode cc pc = .ok (.invokespecial idx, 3)) (hq : CN_ own idx y bytes maxL n) (hn : as.length = n) (ha : 0 < a) (hM : VM2 w l X Y y bytes maxL none fr lo mc ms d m (mA a :: as) none d' m') {S' : List MV} (hS : as.reverse ++ mA a :: S = S') (hr : rOk rm kc ks fr lo mc ms maxL S)
    (k : V w l Y G Q d' m' (kc + mc) (ks + ms) (pc + 3) L S) : V w l X G Q d m kc ks pc L S' := by
  intro hv hx hl hs H locs lsR hH hlo hL
  subst hS
  obtain ⟨f1, f2, f3, f4, f5, f6, f7, f8, f9⟩ := F
  obtain ⟨r1, r2, r3, r4, r5⟩ := hr
  obtain ⟨q1, q1', q2, q3, q4, q5⟩ := hq
  have hsp : ∀ {a b : List MV}, cns (a ++ b) → cns a ∧ cns b := by
    intro a b h
    induction a with
    | nil => exact ⟨trivial, h⟩
    | cons x a ih => exact ⟨⟨h.1, (ih h.2).1⟩, (ih h.2).2⟩
  have hrv : ∀ {a : List MV}, cns a.reverse → cns a := by
    intro a
    induction a with
    | nil => exact fun _ => trivial
    | cons x a ih =>
      intro h
      rw [List.reverse_cons] at h
      exact ⟨(hsp h).2.1, ih (hsp h).1⟩
  have hMet := hM hv hx ⟨trivial, hrv (hsp hs).1⟩ H hH
  have eqa : (as.map (eV w)).reverse ++ eV w (mA a) :: S.map (eV w) = (as.reverse ++ mA a :: S).map (eV w) := by simp
  refine v_after2 (out := none) hl (hsp hs).2.2 hlo hL k (st0 := _) (a := (Value.ref (fA w a) :: as.map (eV w)).toArray) ?_
  have hea : eV w (mA a) = .ref (fA w a) := eR_pos ha
  have hp : PreS G.2.2.2.1 H (va_Pc ((mA a :: as).map (eV w)) (fun U => U.heap = H ∧ KU w U)) (.ref (fA w a) :: as.map (eV w)) := ⟨blindK, fun U hU hW => ⟨by rw [List.map_cons, hea], hU, KU.moved hW f6⟩⟩
  have hroom : 2 * (F0 G.2.2.2.2.1 pc lsR ((as.reverse ++ mA a :: S).map (eV w))).monitorRoom + ((S.map (eV w)).map fun v => v.category).sum ≤ 8 := lv_room (by rw [cat_ok]; exact r5)
  have hstk : (F0 G.2.2.2.2.1 pc lsR ((as.reverse ++ mA a :: S).map (eV w))).stack = (as.map (eV w)).reverse ++ .ref (fA w a) :: S.map (eV w) := by rw [← hea]; exact eqa.symm
  have hfix : CallFix G.1 G.2.2.2.2.1 G.2.2.2.2.2.2.2.2 cc nL G.2.2.2.1 G.2.2.2.2.2.1 lw_all own := ⟨f1, f2, f3, f4, f5⟩
  have hlen2 : (as.map (eV w)).length = n := by rw [List.length_map]; exact hn
  rcases q1 with q1 | ⟨host, q1⟩
  · exact va_runI hfix hMet (cwI n f5 (lw_meth q4) rfl rfl rfl (f5 _ q3) (f5 _ q1) (f5 _ q2) q1' q5 ⟨by rw [f9]; exact r1, by rw [f9]; exact r2⟩) hp rfl hlen2 (hL.1.trans f3) hstk hroom hd ⟨by rw [f9]; exact r3, by rw [f9]; exact r4⟩
  · exact va_runIN hfix hMet ⟨va_cnB n f5 (lw_meth q4) rfl rfl rfl (f6.2.1 _ q1) (f5 _ q3) q5 ⟨by rw [f9]; exact r1, by rw [f9]; exact r2⟩, q1', f5 _ q2⟩ hp rfl hlen2 (hL.1.trans f3) hstk hroom hd ⟨by rw [f9]; exact r3, by rw [f9]; exact r4⟩
end V2
theorem col3_pubF {m : Dt} {lo hi : Int} (h0 : 0 < lo) (h1 : hi ≤ m 0 0) : col3 m (pubF m lo hi) := ⟨fun _ _ hj => pubF_o (Or.inl hj), fun _ hx => pubF_o (Or.inr (by omega))⟩
