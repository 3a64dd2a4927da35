/-! LEVEL 1: wide texts, the digests' tables, calls on texts -/
theorem W.ldsw {p : Program} {l : Launch} {e : Env} {R : Room} {s : State} {m : MethodId} {args : Array Value} {below : List Frame} {meth : Method} {c : Code} {H : Heap} {locs : List Loc} {cells slots : Nat} {Q : State → Prop} {cc : ByteArray} {pc : Nat} {ls : Array Slot} {rest : List Value} (hexec : p.tables.exec = Jvm.exec) (hb : c.code = cc) {own tx : String} {index q : Nat} (hown : s.vm.findClass own = some m.cls) (hZ : vk_R own index tx q s) (hdg : decode cc pc = .ok (.ldc_w index, 3))
    (k : W p l e R s m args below meth c H locs cells slots Q (F0 m (pc + 3) ls (.ref q :: rest))) : W p l e R s m args below meth c H locs cells slots Q (F0 m pc ls rest) := by
  intro T hT X
  obtain ⟨t, a1, b1⟩ := k T hT X
  refine ⟨t, ?_, b1⟩
  obtain ⟨k0, cf, i, a', hk, hcf, hcp, -, hr, hev'⟩ := Cond.stringRef_spec hown hZ.1
  cases hZ.2.symm.trans hev'
  obtain ⟨k', hk', he⟩ := X.warmed.alike.2.2 _ _ hk
  have hr' : k'.resolved[index]? = some (some (.string q)) := by
    rcases X.warmed.entry hk hk' index with h | ⟨h, -⟩
    · rw [h]; exact hr
    · rw [hr] at h; cases h
  subst hb
  jvm_step X.here [hexec, hdg, ldc_w.wp_string (e := e) (s := T) (f := F0 m pc ls rest) X.here.top hk' (by rw [he]; exact hcf) hcp hr']
  exact a1
theorem xK_in : ∀ k, in32 (xK.getD k 0) := by
  have h : ∀ x ∈ xK, in32 x := by unfold in32; decide +kernel
  intro k
  rw [List.getD_eq_getElem?_getD]
  cases e : xK[k]? with
  | none => exact in32_0
  | some v => exact h v (List.mem_of_getElem? e)
theorem xB_in : ∀ k, in32 (xB.getD k 0) := by
  have h : ∀ x ∈ xB, in32 x := by unfold in32; decide +kernel
  intro k
  rw [List.getD_eq_getElem?_getD]
  cases e : xB[k]? with
  | none => exact in32_0
  | some v => exact h v (List.mem_of_getElem? e)
section VY
variable {w : Wd} {l : Launch} {X : Dt → Dt → Prop} {G : Cx} {Q : State → Prop} {d m d' m' : Dt} {kc ks pc nL : Nat} {L S : List MV} {cc : ByteArray} {own : String} {rt : Option FieldType} {rm : Room}
theorem v_ldsw (F : Fx w G cc own nL rt rm) {idx : Nat} {tx : String} {a : Int} (hd : decode cc pc = .ok (.ldc_w idx, 3)) (hq : (own, idx, tx, a) ∈ sTab) (ha : a < 0) (kk : V w l X G Q d m kc ks (pc + 3) L (mA a :: S)) : V w l X G Q d m kc ks pc L S := by
  intro hv hx hl hs H locs lsR hH hlo hL
  have h := kk hv hx hl ⟨trivial, hs⟩ H locs lsR hH hlo hL
  have e : eV w (mA a) = .ref (w.2.1 a) := eR_old ha
  rw [List.map_cons, e] at h
  exact W.ldsw F.1 F.2.1 F.2.2.2.1 (F.2.2.2.2.2.1.2.2.2.2.2.2.2.2.1.1 _ hq) hd h
theorem v_n4 {u1 u2 u3 : MV} {x e : Int} (h : x = e) (k : V w l X G Q d m kc ks pc L (u1 :: u2 :: u3 :: mI x :: S)) : V w l X G Q d m kc ks pc L (u1 :: u2 :: u3 :: mI e :: S) := h ▸ k
theorem v_gsK (F : Fx w G cc own nL rt rm) {idx : Nat} (hd : decode cc pc = .ok (.getstatic idx, 3)) (hq : Cond.fieldLink own idx "ElectionHouse$Digests" "K" "[I" ∈ lw_all) (kk : V w l X G Q d m kc ks (pc + 3) L (mA (-2) :: S)) : V w l X G Q d m kc ks pc L S :=
  v_gst (v := mA (-2)) F hd hq (by rw [show eV w (mA (-2)) = .ref (w.2.1 (-2)) from eR_old (by decide)]; exact F.2.2.2.2.2.1.2.2.2.2.2.1) trivial kk
theorem v_gsB (F : Fx w G cc own nL rt rm) {idx : Nat} (hd : decode cc pc = .ok (.getstatic idx, 3)) (hq : Cond.fieldLink own idx "ElectionHouse$Digests" "BEGIN" "[I" ∈ lw_all) (kk : V w l X G Q d m kc ks (pc + 3) L (mA (-3) :: S)) : V w l X G Q d m kc ks pc L S :=
  v_gst (v := mA (-3)) F hd hq (by rw [show eV w (mA (-3)) = .ref (w.2.1 (-3)) from eR_old (by decide)]; exact F.2.2.2.2.2.1.2.2.2.2.2.2.1) trivial kk
theorem v_kald (F : Fx w G cc own nL rt rm) {i : Int} (hd : decode cc pc = .ok (.iaload, 1)) (hi : 0 ≤ i ∧ i < 64) (kk : V w l X G Q d m kc ks (pc + 1) L (mI (xK.getD i.toNat 0) :: S)) : V w l X G Q d m kc ks pc L (mI i :: mA (-2) :: S) :=
  v_xald (n := 64) (f := fun i => xK.getD i.toNat 0) F hd (by decide) F.2.2.2.2.2.1.2.2.2.1 hi (xK_in _) kk
theorem v_bxld (F : Fx w G cc own nL rt rm) {i : Int} (hd : decode cc pc = .ok (.iaload, 1)) (hi : 0 ≤ i ∧ i < 8) (kk : V w l X G Q d m kc ks (pc + 1) L (mI (xB.getD i.toNat 0) :: S)) : V w l X G Q d m kc ks pc L (mI i :: mA (-3) :: S) :=
  v_xald (n := 8) (f := fun i => xB.getD i.toNat 0) F hd (by decide) F.2.2.2.2.2.1.2.2.2.2.1 hi (xB_in _) kk
theorem v_copyB (F : Fx w G cc own nL rt rm) {idx : Nat} {b i j n lb : Int} (hd : decode cc pc = .ok (.invokestatic idx, 3)) (hq : CA own idx) (hb : AR m b 101 lb)
    (hi : 0 ≤ i ∧ 0 ≤ j ∧ 0 ≤ n ∧ i + n ≤ 8 ∧ j + n ≤ lb) (hr : (Nat.ble 1 rm.frames && Nat.ble (cat_ S + (nativeFrameWords "java/lang/System" "arraycopy" 5 + 11)) rm.locals) = true)
    (kk : V w l WF G Q (cxD d xB i b j n) m kc ks (pc + 3) L S) : V w l WF G Q d m kc ks pc L (mI n :: mI j :: mA b :: mI i :: mA (-3) :: S) :=
  v_copyX (la := 8) (f := xB) F hd hq (by decide) F.2.2.2.2.2.1.2.2.2.2.1 xB_in hb hi hr kk
variable {idx : Nat} {y : MethodName} {bytes : ByteArray} {maxL n fr lo : Nat} {ret : Option FieldType} {as : List MV}
/-- a method of a text -/
theorem v_callVX {v : MV} (F : Fx w G cc own nL rt rm) {a : Int} (hd : decode cc pc = .ok (.invokevirtual idx, 3)) (hq : CV own idx y bytes maxL ret n) (hn : as.length = n) (hsx : isS a) (ha : a < 0) (hy : y.cls = "java/lang/String") (hM : VM w l X y bytes maxL ret fr lo 0 0 d m (mA a :: as) (some v) d' m') {S' : List MV} (hS : as.reverse ++ mA a :: S = S') (hr : rOk rm kc ks fr lo 0 0 maxL S)
    (k : V w l X G Q d' m' kc ks (pc + 3) L (v :: S)) : V w l X G Q d m kc ks pc L S' := by
  intro hv hx hl hs H locs lsR hH hlo hL
  subst hS
  obtain ⟨f1, f2, f3, f4, f5, f6, f7, f8, f9⟩ := F
  obtain ⟨r1, r2, r3, r4, r5⟩ := hr
  obtain ⟨q1, q2, q2', q3, q4, q5⟩ := hq
  have hsp : ∀ {a b : List MV}, cns (a ++ b) → cns a ∧ cns b := by
    intro a b h
    induction a with
    | nil => exact ⟨trivial, h⟩
    | cons x a ih => exact ⟨⟨h.1, (ih h.2).1⟩, (ih h.2).2⟩
  have hrv : ∀ {a : List MV}, cns a.reverse → cns a := by
    intro a
    induction a with
    | nil => exact fun _ => trivial
    | cons x a ih =>
      intro h
      rw [List.reverse_cons] at h
      exact ⟨(hsp h).2.1, ih (hsp h).1⟩
  have hMet := hM hv hx ⟨trivial, hrv (hsp hs).1⟩ H hH
  have eqa : (as.map (eV w)).reverse ++ eV w (mA a) :: S.map (eV w) = (as.reverse ++ mA a :: S).map (eV w) := by simp
  refine v_after (out := some v) hM hl (hsp hs).2.2 hlo hL k (st0 := _) (a := (Value.ref (w.2.1 a) :: as.map (eV w)).toArray) ?_
  obtain ⟨cell, z1, z2, z3, -⟩ := (f6.2.2.1 a hsx).1
  have hea : eV w (mA a) = .ref (w.2.1 a) := eR_old ha
  have hp : PreV G.2.2.2.1 H y.cls (w.2.1 a) (va_Pc ((mA a :: as).map (eV w)) (fun U => U.heap = H ∧ KU w U)) (as.map (eV w)) := ⟨blindK, ⟨cell, hH.old z1, z2, by rw [hy]; exact z3⟩, fun U hU hW => ⟨by rw [List.map_cons, hea], hU, KU.moved hW f6⟩⟩
  have hroom : 2 * (F0 G.2.2.2.2.1 pc lsR ((as.reverse ++ mA a :: S).map (eV w))).monitorRoom + ((S.map (eV w)).map fun v => v.category).sum ≤ 8 := lv_room (by rw [cat_ok]; exact r5)
  have hstk : (F0 G.2.2.2.2.1 pc lsR ((as.reverse ++ mA a :: S).map (eV w))).stack = (as.map (eV w)).reverse ++ .ref (w.2.1 a) :: S.map (eV w) := by rw [← hea]; exact eqa.symm
  have hfix : CallFix G.1 G.2.2.2.2.1 G.2.2.2.2.2.2.2.2 cc nL G.2.2.2.1 G.2.2.2.2.2.1 lw_all own := ⟨f1, f2, f3, f4, f5⟩
  have hlen2 : (as.map (eV w)).length = n := by rw [List.length_map]; exact hn
  rcases q1 with q1 | ⟨host, q1⟩
  · exact va_runV hfix hMet (cwV n f5 (lw_V q1 q2 q2' q3 q4) rfl rfl rfl ⟨rfl, q5⟩ ⟨by rw [f9]; exact r1, by rw [f9]; exact r2⟩) hp rfl hlen2 (hL.1.trans f3) hstk hroom hd ⟨by rw [f9]; exact r3, by rw [f9]; exact r4⟩
  · exact va_runVN hfix hMet ⟨va_cnB n f5 (lw_meth q4) rfl rfl rfl (f6.2.1 _ q1) (f5 _ q3) q5 ⟨by rw [f9]; exact r1, by rw [f9]; exact r2⟩, f5 _ q2, f5 _ q2'⟩ hp rfl hlen2 (hL.1.trans f3) hstk hroom hd ⟨by rw [f9]; exact r3, by rw [f9]; exact r4⟩
/-- facts of a text -/
theorem Fx.sv (F : Fx w G cc own nL rt rm) {a : Int} (h : isS a) : va_OF "java/lang/String" "value" "[B" (eV w (mA (a - 1))) (w.2.1 a) (fun q => w.1.size ≤ q) G.2.2.2.1 w.1 := by
  have ha : a - 1 < 0 := by unfold isS isSb at h; simp only [Bool.and_eq_true, decide_eq_true_eq] at h; omega
  rw [show eV w (mA (a - 1)) = .ref (w.2.1 (a - 1)) from eR_old ha]
  exact (F.2.2.2.2.2.1.2.2.1 a h).2.2.1
theorem Fx.sc (F : Fx w G cc own nL rt rm) {a : Int} (h : isS a) : va_OF "java/lang/String" "coder" "B" (eV w (mI 0)) (w.2.1 a) (fun q => w.1.size ≤ q) G.2.2.2.1 w.1 := (F.2.2.2.2.2.1.2.2.1 a h).2.1
theorem Fx.st (F : Fx w G cc own nL rt rm) {a : Int} (h : isS a) : va_T .byte (w.2.1 (a - 1)) (sLen a).toNat (fun j => .int (Int32.ofInt (sAt a j))) (fun q => w.1.size ≤ q) G.2.2.2.1 w.1 := (F.2.2.2.2.2.1.2.2.1 a h).2.2.2
theorem Fx.cs (F : Fx w G cc own nL rt rm) : va_Z "java/lang/String" "COMPACT_STRINGS" "Z" (eV w (mI 1)) (fun q => w.1.size ≤ q) G.2.2.2.1 w.1 := F.2.2.2.2.2.1.2.2.2.2.2.2.2.1
theorem isS_neg {a : Int} (h : isS a) : a < 0 ∧ a - 1 < 0 := by unfold isS isSb at h; simp only [Bool.and_eq_true, decide_eq_true_eq] at h; omega
theorem v_aaldS (F : Fx w G cc own nL rt rm) {a i n x : Int} (hd : decode cc pc = .ok (.aaload, 1)) (ho : AR m a 115 n) (hi : 0 ≤ i ∧ i < n) (hx : x = d a i) (kk : (x = 0 ∨ isS x) → V w l WF G Q d m kc ks (pc + 1) L (mA x :: S)) : V w l WF G Q d m kc ks pc L (mI i :: mA a :: S) := by
  subst hx
  refine v_fact fun hv hX _ _ => v_aald F hd ho (by omega) rfl rfl rfl hi (fun _ _ => rfl) (kk ?_)
  have h := (hX.2.2 a ho.1).2 115 ho.2.1 (by omega) rfl i hi.1 (by rw [ho.2.2]; exact hi.2)
  rcases h with h | h
  · exact Or.inl h
  · have h : m (d a i) 3 = 120 := h
    refine Or.inr ?_
    rcases Int.lt_trichotomy (d a i) 0 with z | z | z
    · exact F.2.2.2.2.2.1.2.2.2.2.2.2.2.2.1.2 _ 0 (by rw [← (hv.2.2.2.2.1 _ 3 z).1]; exact h)
    · rw [z, hv.2.2.2.1.2] at h
      cases h
    · have h1 := (hX.1 _ (show m (d a i) 3 ≠ 0 by rw [h]; decide)).1
      have h2 := ((hv.2.2.2.2.2 _ z).2 120 (by rw [h1, h]; rfl) (by omega)).1
      omega
theorem v_nret {ty : FieldType} (F : Fx w G cc own nL (some ty) rm) {v : Int} (hb : narrow ty (.int (Int32.ofInt v)) = .int (Int32.ofInt v)) (hd : decode cc pc = .ok (.ireturn, 1)) : V w l X G (QM w G X (some (mI v)) d m kc ks) d m kc ks pc L [mI v] := by
  intro hv hx hl hs H locs lsR hH hlo hL
  exact W.zret F.1 F.2.1 F.2.2.2.2.2.2.1 hb (fun t ht hW => ⟨rfl, by rw [ht]; exact hH, hv, hx, fun v h => by cases h; exact hs.1⟩) hlo hd F.2.2.2.2.2.2.2.1
theorem bShr_0 {x : Int} (h : in32 x) : bShr x 0 = x := by
  unfold bShr
  rw [show (Int32.ofInt 0 &&& 31) = ((0 : Int32) &&& 31) from rfl, sb_shr0, i32_to h]
theorem bAnd_255 {x : Int} (h : 0 ≤ x ∧ x ≤ 255) : bAnd x 255 = x := by
  unfold bAnd
  rw [show Int32.ofInt 255 = (255 : Int32) from rfl, pk_and (Int32.ofInt x) (m := 255) 8 (by decide)]
  have e : (Int32.ofInt x).toBitVec.toNat = (x % 4294967296).toNat := by
    show (BitVec.ofInt 32 x).toNat = _
    rw [BitVec.toNat_ofInt]
    rfl
  rw [e, nI_toInt (by omega)]
  omega
theorem i2c_id {x : Int} (h : 0 ≤ x ∧ x ≤ 255) : i2c_ x = x := by
  unfold i2c_
  rw [pk_char]
  have e : (Int32.ofInt x).toBitVec.toNat = (x % 4294967296).toNat := by
    show (BitVec.ofInt 32 x).toNat = _
    rw [BitVec.toNat_ofInt]
    rfl
  rw [e, nI_toInt (by omega)]
  omega
theorem sAt_in {a k : Int} : 0 ≤ sAt a k ∧ sAt a k ≤ 127 := by
  have h : ∀ x ∈ sByt, ∀ y ∈ x, 0 ≤ y ∧ y ≤ 127 := by decide +kernel
  unfold sAt sTx
  rw [List.getD_eq_getElem?_getD]
  cases e : (sByt.getD ((-a - 10) / 2).toNat [])[k.toNat]? with
  | none => exact ⟨by decide, by decide⟩
  | some v =>
    rw [List.getD_eq_getElem?_getD] at e
    cases e2 : sByt[((-a - 10) / 2).toNat]? with
    | none => rw [e2] at e; simp at e
    | some z => rw [e2] at e; exact h z (List.mem_of_getElem? e2) v (List.mem_of_getElem? e)
theorem sLen_in {a : Int} : 0 ≤ sLen a ∧ sLen a ≤ 20 := by
  have h : ∀ x ∈ sByt, x.length ≤ 20 := by decide +kernel
  unfold sLen sTx
  rw [List.getD_eq_getElem?_getD]
  cases e2 : sByt[((-a - 10) / 2).toNat]? with
  | none => exact ⟨by decide, by decide⟩
  | some z =>
    have := h z (List.mem_of_getElem? e2)
    simp only [Option.getD_some]
    omega
end VY
