/-! LEVEL 1: the heap, returns, contracts, calls -/
theorem st_eq (d : Dt) (a k v : Int) : st d a k v a k = v := by unfold st; rw [if_pos ⟨rfl, rfl⟩]
theorem st_na {d : Dt} {a k v x y : Int} (h : x ≠ a) : st d a k v x y = d x y := by unfold st; rw [if_neg (fun q => h q.1)]
theorem st_nk {d : Dt} {a k v x y : Int} (h : y ≠ k) : st d a k v x y = d x y := by unfold st; rw [if_neg (fun q => h q.2)]
theorem fA_pos {w : Wd} {a : Int} (h : 0 < a) : fA w a = w.1.size + (a - 1).toNat := by unfold fA; rw [if_pos h]
theorem fA_ne {w : Wd} {a b : Int} (ha : 0 < a) (hb : 0 < b) (h : b ≠ a) : fA w b ≠ fA w a := by
  rw [fA_pos ha, fA_pos hb]
  omega
theorem VT.lt {w : Wd} {d m : Dt} (h : VT w d m) {a : Int} (ha : m a 1 ≠ 0) : a < m 0 0 := by
  rcases Int.lt_or_le a (m 0 0) with q | q
  · exact q
  · exact absurd (h.2.2.1 a 1 q) ha
/-- a cell of this class -/
def OB (m : Dt) (a : Int) (c : Nat) : Prop := 0 < a ∧ m a 1 = (c : Int) + 1
/-- an array of this tag and length -/
def AR (m : Dt) (a : Int) (t : Nat) (n : Int) : Prop := 0 < a ∧ m a 1 = (t : Int) ∧ m a 2 = n
theorem CR.keep {w : Wd} {d d' m : Dt} {b : Int} {H H' : Heap} (h : CR w d m b H) (hd : ∀ k, d' b k = d b k) (hq : H'[fA w b]? = H[fA w b]?) : CR w d' m b H' := by
  have e : d' b = d b := funext hd
  refine ⟨fun c h1 h2 => ?_, fun t h1 h2 => ?_⟩
  · rw [e]
    exact t_OB.kept (h.1 c h1 h2) hq
  · rw [e, hq]
    exact h.2 t h1 h2
theorem VT.sto {w : Wd} {d m : Dt} (h : VT w d m) {a : Int} {c k : Nat} {v : Int} (ho : OB m a c) (hc : c < 20) (hv : cT (k_ty c k) v) : VT w (st d a k v) m := by
  have hlt := h.lt (show m a 1 ≠ 0 by rw [ho.2]; omega)
  obtain ⟨h1, h2, h3, h4, h5, h6⟩ := h
  refine ⟨h1, fun b j hb => ?_, h3, h4, fun b j hb => ?_, fun b hb => ⟨fun c' e1 e2 k' e3 => ?_, fun t e1 e2 => ?_⟩⟩
  · rw [st_na (by omega)]; exact h2 b j hb
  · rw [st_na (by have := ho.1; omega)]; exact h5 b j hb
  · by_cases e : b = a ∧ (k' : Int) = k
    · obtain ⟨e4, e5⟩ := e
      subst e4
      have e6 : c' = c := by have := ho.2; omega
      have e7 : k' = k := by omega
      subst e6; subst e7
      rw [st_eq]; exact hv
    · unfold st
      rw [if_neg e]
      exact (h6 b hb).1 c' e1 e2 k' e3
  · obtain ⟨q1, q2, q3, q4⟩ := (h6 b hb).2 t e1 e2
    refine ⟨q1, q2, q3, fun i hi1 hi2 => ?_⟩
    have e : b ≠ a := by
      intro e
      subst e
      have := ho.2
      omega
    rw [st_na e]
    exact q4 i hi1 hi2
theorem VT.sta {w : Wd} {d m : Dt} (h : VT w d m) {a i v n : Int} {t : Nat} (ho : AR m a t n) (ht : 100 < t) (hv : cT (k_el t) v) : VT w (st d a i v) m := by
  have hlt := h.lt (show m a 1 ≠ 0 by rw [ho.2.1]; omega)
  obtain ⟨h1, h2, h3, h4, h5, h6⟩ := h
  refine ⟨h1, fun b j hb => ?_, h3, h4, fun b j hb => ?_, fun b hb => ⟨fun c' e1 e2 k' e3 => ?_, fun t' e1 e2 => ?_⟩⟩
  · rw [st_na (by omega)]; exact h2 b j hb
  · rw [st_na (by have := ho.1; omega)]; exact h5 b j hb
  · have e : b ≠ a := by
      intro e
      subst e
      have := ho.2.1
      omega
    rw [st_na e]
    exact (h6 b hb).1 c' e1 e2 k' e3
  · obtain ⟨q1, q2, q3, q4⟩ := (h6 b hb).2 t' e1 e2
    refine ⟨q1, q2, q3, fun j hi1 hi2 => ?_⟩
    by_cases e : b = a ∧ j = i
    · obtain ⟨e4, e5⟩ := e
      subst e4; subst e5
      have e6 : t' = t := by have := ho.2.1; omega
      subst e6
      rw [st_eq]; exact hv
    · unfold st
      rw [if_neg e]
      exact q4 j hi1 hi2
theorem RH.sto {w : Wd} {d m : Dt} {H H' : Heap} (hH : RH w d m H) {a : Int} {c k : Nat} {v : Int} {cell : Cell} (ho : OB m a c) (hc : c < 20) (hk : k < k_N c) (hap : ∀ x y, x < k_N c → y < k_N c → x ≠ y → w.2.2.2.1 c x ≠ w.2.2.2.1 c y)
    (hcl : cell.cls = w.2.2.1 c) (hvm : cell.vm = .none) (hs : ∀ j, j < k_N c → cell.slots[w.2.2.2.1 c j]? = some (eT w (k_ty c j) (d a j)))
    (e1 : H'[fA w a]? = some (cell.setSlot (w.2.2.2.1 c k) (eT w (k_ty c k) v))) (e2 : H'.size = H.size) (e3 : ∀ q, q ≠ fA w a → H'[q]? = H[q]?) : RH w (st d a k v) m H' := by
  obtain ⟨g1, g2, g3⟩ := hH
  refine ⟨e2.trans g1, fun q hq => ?_, fun b hb1 hb2 => ?_⟩
  · rw [e3 q (by rw [fA_pos ho.1]; omega)]; exact g2 q hq
  · by_cases e : b = a
    · subst e
      refine ⟨fun c' q1 q2 => ?_, fun t q1 q2 => ?_⟩
      · have e6 : c' = c := by have := ho.2; omega
        subst e6
        refine ⟨_, e1, hcl, hvm, fun j hj => ?_⟩
        have h1 := t_set (V := fun k => eT w (k_ty c' k) (d b k)) hs hap hk (eT w (k_ty c' k) v) j hj
        rw [h1]
        unfold updV
        show _ = some (eT w (k_ty c' j) (st d b k v b j))
        by_cases e : j = k
        · subst e
          rw [if_pos rfl, st_eq]
        · rw [if_neg e, st_nk (show (j : Int) ≠ k by omega)]
      · have := ho.2
        omega
    · exact CR.keep (g3 b hb1 hb2) (fun j => st_na e) (e3 _ (fA_ne ho.1 hb1 e))
theorem RH.sta {w : Wd} {d m : Dt} {H H' : Heap} (hH : RH w d m H) {a i v n : Int} {t : Nat} (ho : AR m a t n) (ht : 100 < t) (hi : 0 ≤ i)
    (e1 : H'[fA w a]? = some ((arrV (w.2.2.2.2.1 t) (m a 2).toNat (fun j => eT w (k_el t) (d a j))).setSlot i.toNat (eT w (k_el t) v))) (e2 : H'.size = H.size) (e3 : ∀ q, q ≠ fA w a → H'[q]? = H[q]?) : RH w (st d a i v) m H' := by
  obtain ⟨g1, g2, g3⟩ := hH
  refine ⟨e2.trans g1, fun q hq => ?_, fun b hb1 hb2 => ?_⟩
  · rw [e3 q (by rw [fA_pos ho.1]; omega)]; exact g2 q hq
  · by_cases e : b = a
    · subst e
      refine ⟨fun c' q1 q2 => ?_, fun t' q1 q2 => ?_⟩
      · have := ho.2.1
        omega
      · have e6 : t' = t := by have := ho.2.1; omega
        subst e6
        rw [e1, arrV_store]
        congr 2
        funext j
        unfold updV
        by_cases e : j = i.toNat
        · have e' : (j : Int) = i := by omega
          rw [if_pos e, e', st_eq]
        · rw [if_neg e, st_nk (by omega)]
    · exact CR.keep (g3 b hb1 hb2) (fun j => st_na e) (e3 _ (fA_ne ho.1 hb1 e))
/-- what is known of a class: its number, its words -/
def CI (c : Nat) (C : String) (T : u_T) (N : Nat) : Prop := k_cl[c]? = some (C, T, N) ∧ k_N c = N ∧ (∀ q ∈ u_ws C T N, q ∈ lw_all) ∧ (∀ a, a < N → ∀ b, b < N → a ≠ b → (T a).2.1 ≠ (T b).2.1) ∧ (∀ k, k < N → parseFieldDescriptor (T k).2.2.1 = some (k_ty c k)) ∧ c < 20
/-- an entry of own's pool names the field k of the class c -/
def FL (own : String) (idx c k : Nat) (fin : Bool) : Prop := ∃ (C : String) (T : u_T) (N : Nat), CI c C T N ∧ k < N ∧ (T k).2.2.2 = fin ∧ (fin = true → (T k).1 = own) ∧
  (Cond.fieldLink own idx (T k).1 (T k).2.1 (T k).2.2.1 ∈ lw_all ∨ ∃ host, fin = false ∧ Cond.fieldLinkNest own idx (T k).1 (T k).2.1 (T k).2.2.1 host ∈ lw_tbl.filter nestW)
def FG (own : String) (idx c k : Nat) : Prop := ∃ (C : String) (T : u_T) (N : Nat), CI c C T N ∧ k < N ∧ 
  (Cond.fieldLink own idx (T k).1 (T k).2.1 (T k).2.2.1 ∈ lw_all ∨ ∃ host, Cond.fieldLinkNest own idx (T k).1 (T k).2.1 (T k).2.2.1 host ∈ lw_tbl.filter nestW)
def kI : FieldType → Bool
  | .int => true
  | .byte => true
  | .boolean => true
  | _ => false
def kL : FieldType → Bool
  | .long => true
  | _ => false
def kA : FieldType → Bool
  | .object _ => true
  | .array _ => true
  | _ => false
theorem eT_I {w : Wd} {ty : FieldType} (h : kI ty = true) (v : Int) : eT w ty v = eV w (mI v) := by cases ty <;> first | rfl | (simp [kI] at h)
theorem eT_L {w : Wd} {ty : FieldType} (h : kL ty = true) (v : Int) : eT w ty v = eV w (mL v) := by cases ty <;> first | rfl | (simp [kL] at h)
theorem eT_A {w : Wd} {ty : FieldType} (h : kA ty = true) (v : Int) : eT w ty v = eV w (mA v) := by cases ty <;> first | rfl | (simp [kA] at h)
theorem cT_I {ty : FieldType} (h : kI ty = true) {v : Int} (hv : cT ty v) : in32 v := by
  cases ty <;> first | (simp [kI] at h; done) | exact hv | (simp only [cT] at hv; unfold in32; omega)
section VH
variable {w : Wd} {l : Launch} {X : Dt → Dt → Prop} {G : Cx} {Q : State → Prop} {d m : Dt} {kc ks pc nL : Nat} {L S : List MV} {cc : ByteArray} {own : String} {rt : Option FieldType} {rm : Room}
theorem eR_pos {a : Int} (h : 0 < a) : eR w a = .ref (fA w a) := by unfold eR; rw [if_neg (by omega)]
/-- a field is read -/
theorem v_get0 (F : Fx w G cc own nL rt rm) {idx c k : Nat} {a : Int} {v : MV} (hf : FG own idx c k) (hd : decode cc pc = .ok (.getfield idx, 3)) (ho : OB m a c) (hv0 : VT w d m → eT w (k_ty c k) (d a k) = eV w v ∧ cn v)
    (kk : V w l X G Q d m kc ks (pc + 3) L (v :: S)) : V w l X G Q d m kc ks pc L (mA a :: S) := by
  intro hv hx hl hs H locs lsR hH hlo hL
  obtain ⟨C, T, N, ⟨c1, c2, c3, c4, c5, c6⟩, hk, hq⟩ := hf
  obtain ⟨e1, e2⟩ := hv0 hv
  obtain ⟨cell, q1, q2, q3, q4⟩ := (hH.2.2 a ho.1 (hv.lt (by rw [ho.2]; omega))).1 c ho.2 c6
  obtain ⟨hS, hfc, kC, hkC, hkind⟩ := F.2.2.2.2.2.1.1.1 c _ c1
  obtain ⟨cf, kf, fi, f, hi, hsl⟩ := hS k hk
  have hst := (u_facts hfc hkC (u_lays F.2.2.2.2.1 c3 hk) hi).1
  have h := kk hv hx hl ⟨e2, hs.2⟩ H locs lsR hH hlo hL
  simp only [List.map_cons] at h
  have hslot : cell.slots[f.slot]? = some (eV w v) := by rw [hsl]; exact (q4 k (by rw [c2]; exact hk)).trans (congrArg some e1)
  show W _ _ _ _ _ _ _ _ _ _ _ _ _ _ _ (F0 _ pc lsR (eR w a :: _))
  rw [eR_pos ho.1]
  rcases hq with hq | ⟨host, hq⟩
  · exact W.getf F.1 F.2.1 F.2.2.2.1 (F.2.2.2.2.1 _ hq) hi hst q1 (by rw [q3]; exact fun h => by cases h) hslot rfl rfl hd h
  · exact va_Wgetf F.1 F.2.1 F.2.2.2.1 (va_Nw.use rfl (F.2.2.2.2.2.1.2.1 _ hq)) hi hst q1 (by rw [q3]; exact fun h => by cases h) hslot rfl rfl hd h
theorem v_getI (F : Fx w G cc own nL rt rm) {idx c k : Nat} {a kz : Int} (hf : FG own idx c k) (hd : decode cc pc = .ok (.getfield idx, 3)) (ho : OB m a c) (hc : c < 20) (hk : k < k_N c) (hz : (k : Int) = kz) (ht : kI (k_ty c k) = true) (kk : V w l X G Q d m kc ks (pc + 3) L (mI (d a kz) :: S)) : V w l X G Q d m kc ks pc L (mA a :: S) := by
  subst hz
  exact v_get0 F hf hd ho (fun hv => ⟨eT_I ht _, cT_I ht ((hv.2.2.2.2.2 a ho.1).1 c ho.2 hc k hk)⟩) kk
theorem v_getL (F : Fx w G cc own nL rt rm) {idx c k : Nat} {a kz : Int} (hf : FG own idx c k) (hd : decode cc pc = .ok (.getfield idx, 3)) (ho : OB m a c) (hc : c < 20) (hk : k < k_N c) (hz : (k : Int) = kz) (ht : k_ty c k = .long) (kk : V w l X G Q d m kc ks (pc + 3) L (mL (d a kz) :: S)) : V w l X G Q d m kc ks pc L (mA a :: S) := by
  subst hz
  exact v_get0 F hf hd ho (fun hv => ⟨by rw [ht]; rfl, by have := (hv.2.2.2.2.2 a ho.1).1 c ho.2 hc k hk; rw [ht] at this; exact this⟩) kk
theorem v_getA (F : Fx w G cc own nL rt rm) {idx c k : Nat} {a v : Int} (hf : FG own idx c k) (hd : decode cc pc = .ok (.getfield idx, 3)) (ho : OB m a c) (ht : kA (k_ty c k) = true) (hv : d a k = v) (kk : V w l X G Q d m kc ks (pc + 3) L (mA v :: S)) : V w l X G Q d m kc ks pc L (mA a :: S) := by
  subst hv
  exact v_get0 F hf hd ho (fun hv => ⟨eT_A ht _, trivial⟩) kk
theorem fit_byte {x : Int} (hc : -128 ≤ x ∧ x ≤ 127) : narrow .byte (.int (Int32.ofInt x)) = .int (Int32.ofInt x) ∧ fits .byte (.int (Int32.ofInt x)) = true := by
  have h1 : in32 x := by unfold in32; omega
  have h2 : ((Int32.ofInt x).toInt8.toInt32) = Int32.ofInt x := by
    rw [i8_i2b h1]
    congr 1
    unfold w8; omega
  have h3 : fits .byte (.int (Int32.ofInt x)) = true := by
    simp only [fits, Bool.and_eq_true, decide_eq_true_eq]
    constructor
    · show (Int32.ofInt (-128)) ≤ Int32.ofInt x
      rw [i32_le (by unfold in32; omega) h1]; exact hc.1
    · show Int32.ofInt x ≤ Int32.ofInt 127
      rw [i32_le h1 (by unfold in32; omega)]; exact hc.2
  refine ⟨?_, h3⟩
  simp only [narrow]
  rw [h2]
theorem fit_of {ty : FieldType} {x : Int} (hc : cT ty x) (h : kI ty = true) : narrow ty (.int (Int32.ofInt x)) = .int (Int32.ofInt x) ∧ fits ty (.int (Int32.ofInt x)) = true := by
  cases ty <;> first | (simp [kI] at h; done) | exact fit_byte hc | (rcases hc with rfl | rfl <;> exact ⟨by decide, by decide⟩) | exact ⟨rfl, rfl⟩
/-- a field is written -/
theorem v_put0 (F : Fx w G cc own nL rt rm) {idx c k : Nat} {a x : Int} {v : MV} {fin : Bool} (hf : FL own idx c k fin) (hfi : fin = true → G.2.2.2.2.2.2.2.1.name = "<init>") (hd : decode cc pc = .ok (.putfield idx, 3)) (ho : OB m a c)
    (hv0 : cn v → eT w (k_ty c k) x = eV w v ∧ cT (k_ty c k) x ∧ narrow (k_ty c k) (eV w v) = eV w v ∧ fits (k_ty c k) (eV w v) = true) (hX : VT w d m → X d m → X (st d a k x) m)
    (kk : V w l X G Q (st d a k x) m kc ks (pc + 3) L S) : V w l X G Q d m kc ks pc L (v :: mA a :: S) := by
  intro hv hx hl hs H locs lsR hH hlo hL
  obtain ⟨C, T, N, ⟨c1, c2, c3, c4, c5, c6⟩, hk, hfin, hown, hq⟩ := hf
  obtain ⟨e1, e2, e3, e4⟩ := hv0 hs.1
  obtain ⟨cell, q1, q2, q3, q4⟩ := (hH.2.2 a ho.1 (hv.lt (by rw [ho.2]; omega))).1 c ho.2 c6
  have hap := va_apart (own := own) F.2.2.2.2.1 c3 (k_ty c) c5 c4 F.2.2.2.2.2.1.1 c1
  obtain ⟨hS, hfc, kC, hkC, hkind⟩ := F.2.2.2.2.2.1.1.1 c _ c1
  obtain ⟨cf, kf, fi, f, hi, hsl⟩ := hS k hk
  have hlay := F.2.2.2.2.1 _ (c3 _ (u_in_lay hk))
  unfold u_lay at hlay
  have hst := (u_facts hfc hkC (u_lays F.2.2.2.2.1 c3 hk) hi).1
  have hkk : ∀ H' : Heap, H'[fA w a]? = some (cell.setSlot f.slot (eV w v)) → H'.size = H.size → (∀ q, q ≠ fA w a → H'[q]? = H[q]?) → W G.1 l G.2.1 G.2.2.1 G.2.2.2.1 G.2.2.2.2.1 G.2.2.2.2.2.1 G.2.2.2.2.2.2.1 G.2.2.2.2.2.2.2.1 G.2.2.2.2.2.2.2.2 H' (locs ++ [⟨fA w a, f.slot⟩]) kc ks Q (F0 G.2.2.2.2.1 (pc + 3) lsR (S.map (eV w))) := by
    intro H' g1 g2 g3
    refine kk (hv.sto ho c6 e2) (hX hv hx) hl hs.2.2 H' _ lsR (hH.sto ho c6 (by rw [c2]; exact hk) (by rw [c2]; exact hap) q2 q3 q4 (by rw [e1]; rw [show f.slot = w.2.2.2.1 c k from hsl] at g1; exact g1) g2 g3) (fun q hq => ?_) hL
    rcases List.mem_append.mp hq with h | h
    · exact hlo q h
    · rw [List.mem_singleton.mp h]
      show w.1.size ≤ fA w a
      rw [fA_pos ho.1]; omega
  have hlt : f.slot < cell.slots.size := by rw [hsl]; exact k2_hasslot (q4 k (by rw [c2]; exact hk))
  show W _ _ _ _ _ _ _ _ _ _ _ _ _ _ _ (F0 _ pc lsR (eV w v :: eR w a :: _))
  rw [eR_pos ho.1]
  cases fin with
  | false =>
    rw [if_neg (by rw [hfin]; decide)] at hlay
    have h6 := u_store hfc hkC hkind hlay hi (c5 k hk) e3 e4
    rcases hq with hq | ⟨host, -, hq⟩
    · exact W.putK F.1 F.2.1 (f := f) ⟨F.2.2.2.1, F.2.2.2.2.1 _ hq, ⟨_, _, _, hi⟩, hst⟩ (by rw [q2]; exact h6) q1 q3 hlt rfl rfl hd hkk
    · exact va_WputK F.1 F.2.1 (f := f) F.2.2.2.1 (va_Nw.use rfl (F.2.2.2.2.2.1.2.1 _ hq)) hi hst (by rw [q2]; exact h6) q1 q3 hlt rfl rfl hd hkk
  | true =>
    rw [if_pos hfin] at hlay
    have h6 := u_fits hfc hkC hkind (Or.inr hlay) hi (c5 k hk) e3 e4
    have hcf : G.2.2.2.2.1.cls = cf := by
      obtain ⟨_, _, c', _, _, _, -, -, hf', -, -, -, hown2, -⟩ := Cond.laysFinal_spec hlay
      have e1 : c' = cf := by have := hi.symm.trans hf'; simp at this; exact this.1.symm
      rw [hown rfl] at hown2
      rw [← e1]; exact Option.some.inj (F.2.2.2.1.symm.trans hown2)
    rcases hq with hq | ⟨host, hno, hq⟩
    · exact W.putFinK F.1 F.2.1 F.2.2.2.1 (F.2.2.2.2.1 _ hq) hi hst hcf (hfi rfl) (by rw [q2]; exact h6) q1 q3 hlt rfl rfl hd hkk
    · cases hno
end VH
