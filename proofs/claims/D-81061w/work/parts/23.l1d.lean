/-! LEVEL 1: fields by their kinds, arrays, returns, contracts, calls -/
/-- a type of references to what has a tag -/
def isRT : FieldType → Bool
  | .object n => !(k_tg (.object n) == 0)
  | .array t => !(k_tg (.array t) == 0)
  | _ => false
theorem isRT_tg {ty : FieldType} (h : isRT ty = true) : k_tg ty ≠ 0 := by
  cases ty <;> first | (simp [isRT] at h; exact h) | (simp [isRT] at h)
/-- what is made holds what it owns; references point to what is made -/
def WF (d m : Dt) : Prop :=
  (∀ a : Int, m a 3 ≠ 0 → m a 1 = m a 3 ∧ (m a 3 < 120 → 0 < a)) ∧
  (∀ (a : Int) (c : Nat), m a 3 = (c : Int) + 1 → c < 20 → ∀ k : Nat, k < k_N c → k_of c k ≠ 0 → d a k = a + k_of c k ∧ m (a + k_of c k) 3 = k_tg (k_ty c k) ∧ m (a + k_of c k) 2 = k_ln c k ∧
    (k_es c k ≠ 0 → ∀ i : Int, 0 ≤ i → i < k_ln c k → d (a + k_of c k) i = a + k_eb c k + k_es c k * i ∧ m (a + k_eb c k + k_es c k * i) 3 = k_et c k ∧ m (a + k_eb c k + k_es c k * i) 2 = k_e2 c k)) ∧
  (∀ a : Int, 0 < a → (∀ c : Nat, m a 1 = (c : Int) + 1 → c < 20 → ∀ k : Nat, k < k_N c → isRT (k_ty c k) = true → d a k = 0 ∨ m (d a k) 3 = k_tg (k_ty c k)) ∧
    (∀ t : Nat, m a 1 = (t : Int) → 100 < t → isRT (k_el t) = true → ∀ i : Int, 0 ≤ i → i < m a 2 → d a i = 0 ∨ m (d a i) 3 = k_tg (k_el t)))
/-- an object of class c that is made -/
def PB (m : Dt) (a : Int) (c : Nat) : Prop := m a 3 = (c : Int) + 1
theorem PB.ob {d m : Dt} {a : Int} {c : Nat} (h : PB m a c) (hX : WF d m) (hc : c < 20) : OB m a c := by
  have h1 := hX.1 a (by rw [h]; omega)
  exact ⟨h1.2 (by rw [h]; omega), h1.1.trans h⟩
/-- an array that its owner has -/
theorem WF.arr {d m : Dt} (hX : WF d m) {a : Int} {c k t : Nat} {n v : Int} (h : PB m a c) (hc : c < 20) (hk : k < k_N c) (ho : k_of c k ≠ 0) (ht : k_tg (k_ty c k) = (t : Int)) (h1 : 0 < t) (h2 : t < 120) (hn : k_ln c k = n) (hv : a + k_of c k = v) : AR m v t n := by
  obtain ⟨-, g2, g3, -⟩ := hX.2.1 a c h hc k hk ho
  rw [hv] at g2 g3
  rw [ht] at g2
  have g := hX.1 v (by rw [g2]; omega)
  exact ⟨g.2 (by rw [g2]; omega), by rw [g.1, g2], by rw [g3, hn]⟩
theorem WF.obj {d m : Dt} (hX : WF d m) {a : Int} {c k t : Nat} {v : Int} (h : PB m a c) (hc : c < 20) (hk : k < k_N c) (ho : k_of c k ≠ 0) (ht : k_tg (k_ty c k) = (t : Int) + 1) (hv : a + k_of c k = v) : PB m v t := by
  obtain ⟨-, g2, -, -⟩ := hX.2.1 a c h hc k hk ho
  rw [hv, ht] at g2
  exact g2
theorem WF.elA {d m : Dt} (hX : WF d m) {a : Int} {c k t : Nat} {i n v : Int} (h : PB m a c) (hc : c < 20) (hk : k < k_N c) (ho : k_of c k ≠ 0) (hs : k_es c k ≠ 0) (hi : 0 ≤ i ∧ i < k_ln c k) (ht : k_et c k = (t : Int)) (h1 : 0 < t) (h2 : t < 120) (hn : k_e2 c k = n) (hv : a + k_eb c k + k_es c k * i = v) : AR m v t n := by
  obtain ⟨-, -, -, g⟩ := hX.2.1 a c h hc k hk ho
  obtain ⟨-, g2, g3⟩ := g hs i hi.1 hi.2
  rw [hv] at g2 g3
  rw [ht] at g2
  have g := hX.1 v (by rw [g2]; omega)
  exact ⟨g.2 (by rw [g2]; omega), by rw [g.1, g2], by rw [g3, hn]⟩
theorem WF.elO {d m : Dt} (hX : WF d m) {a : Int} {c k t : Nat} {i v : Int} (h : PB m a c) (hc : c < 20) (hk : k < k_N c) (ho : k_of c k ≠ 0) (hs : k_es c k ≠ 0) (hi : 0 ≤ i ∧ i < k_ln c k) (ht : k_et c k = (t : Int) + 1) (hv : a + k_eb c k + k_es c k * i = v) : PB m v t := by
  obtain ⟨-, -, -, g⟩ := hX.2.1 a c h hc k hk ho
  obtain ⟨-, g2, g3⟩ := g hs i hi.1 hi.2
  rw [hv, ht] at g2
  exact g2
/-- tags of arrays whose elements are owned -/
def elT (t : Int) : Bool := t == 105 || t == 106 || t == 107 || t == 108 || t == 110 || t == 113 || t == 114
theorem k_elT : ∀ c, c < 20 → ∀ k, k < k_N c → k_es c k ≠ 0 → elT (k_tg (k_ty c k)) = true := by decide +kernel
theorem elT_big {t : Int} (h : elT t = true) : 100 < t := by
  simp only [elT, Bool.or_eq_true, beq_iff_eq] at h
  omega
/-- a slot that no owner's word speaks of is written -/
theorem WF.sto {d m : Dt} (hX : WF d m) {a v : Int} {c k : Nat} (ho : OB m a c) (hc : c < 20) (hk : k_of c k = 0 ∨ m a 3 = 0) (hr : isRT (k_ty c k) = true → v = 0 ∨ m v 3 = k_tg (k_ty c k)) : WF (st d a k v) m := by
  obtain ⟨h1, h2, h3⟩ := hX
  refine ⟨h1, fun b c' e1 e2 k' e3 e4 => ?_, fun b hb => ⟨fun c' e1 e2 k' e3 e4 => ?_, fun t e1 e2 e3 i i1 i2 => ?_⟩⟩
  · obtain ⟨g1, g2, g3, g4⟩ := h2 b c' e1 e2 k' e3 e4
    refine ⟨?_, g2, g3, fun e5 i i1 i2 => ?_⟩
    · unfold st
      rw [if_neg, g1]
      intro e
      obtain ⟨e6, e7⟩ := e
      subst e6
      have h5 := (h1 b (by omega)).1
      have h6 := ho.2
      have e8 : c' = c := by omega
      have e9 : k' = k := by omega
      subst e8; subst e9
      rcases hk with hk | hk
      · exact e4 hk
      · omega
    · obtain ⟨q1, q2, q3⟩ := g4 e5 i i1 i2
      refine ⟨?_, q2, q3⟩
      have z := elT_big (k_elT c' e2 k' e3 e5)
      rw [st_na, q1]
      intro e
      have h5 := (h1 (b + k_of c' k') (by omega)).1
      rw [e, ho.2] at h5
      rw [e] at g2
      omega
  · by_cases e : b = a ∧ (k' : Int) = k
    · obtain ⟨e6, e7⟩ := e
      subst e6
      have h6 := ho.2
      have e8 : c' = c := by omega
      have e9 : k' = k := by omega
      subst e8; subst e9
      rw [st_eq]
      exact hr e4
    · have e' : st d a k v b k' = d b k' := by unfold st; rw [if_neg e]
      rw [e']
      exact (h3 b hb).1 c' e1 e2 k' e3 e4
  · have e : b ≠ a := by
      intro e
      subst e
      have := ho.2
      omega
    rw [st_na e]
    exact (h3 b hb).2 t e1 e2 e3 i i1 i2
theorem WF.sta {d m : Dt} (hX : WF d m) {a v i n : Int} {t : Nat} (ho : AR m a t n) (ht : 100 < t) (hno : elT t = false) (hr : isRT (k_el t) = true → v = 0 ∨ m v 3 = k_tg (k_el t)) : WF (st d a i v) m := by
  obtain ⟨h1, h2, h3⟩ := hX
  refine ⟨h1, fun b c' e1 e2 k' e3 e4 => ?_, fun b hb => ⟨fun c' e1 e2 k' e3 e4 => ?_, fun t' e1 e2 e3 j i1 i2 => ?_⟩⟩
  · obtain ⟨g1, g2, g3, g4⟩ := h2 b c' e1 e2 k' e3 e4
    refine ⟨?_, g2, g3, fun e5 j i1 i2 => ?_⟩
    · rw [st_na, g1]
      intro e
      subst e
      have h5 := (h1 b (by omega)).1
      have h6 := ho.2.1
      omega
    · obtain ⟨q1, q2, q3⟩ := g4 e5 j i1 i2
      refine ⟨?_, q2, q3⟩
      have z0 := k_elT c' e2 k' e3 e5
      have z := elT_big z0
      rw [st_na, q1]
      intro e
      have h5 := (h1 (b + k_of c' k') (by omega)).1
      rw [e, ho.2.1] at h5
      rw [e] at g2
      rw [← g2, ← h5, hno] at z0
      cases z0
  · have e : b ≠ a := by
      intro e
      subst e
      have := ho.2.1
      omega
    rw [st_na e]
    exact (h3 b hb).1 c' e1 e2 k' e3 e4
  · by_cases e : b = a ∧ j = i
    · obtain ⟨e6, e7⟩ := e
      subst e6; subst e7
      have h6 := ho.2.1
      have e8 : t' = t := by omega
      subst e8
      rw [st_eq]
      exact hr e3
    · have e' : st d a i v b j = d b j := by unfold st; rw [if_neg e]
      rw [e']
      exact (h3 b hb).2 t' e1 e2 e3 j i1 i2
section VH
variable {w : Wd} {l : Launch} {X : Dt → Dt → Prop} {G : Cx} {Q : State → Prop} {d m : Dt} {kc ks pc nL : Nat} {L S : List MV} {cc : ByteArray} {own : String} {rt : Option FieldType} {rm : Room}
/-! rows over WF -/
theorem v_getF (F : Fx w G cc own nL rt rm) {idx c k : Nat} {a v : Int} (hf : FG own idx c k) (hd : decode cc pc = .ok (.getfield idx, 3)) (hp : PB m a c) (hc : c < 20) (hk : k < k_N c) (ho : k_of c k ≠ 0) (ht : kA (k_ty c k) = true) (hv : a + k_of c k = v) (kk : V w l WF G Q d m kc ks (pc + 3) L (mA v :: S)) : V w l WF G Q d m kc ks pc L (mA a :: S) :=
  v_fact fun _ hX _ _ => v_getA F hf hd (hp.ob hX hc) ht ((hX.2.1 a c hp hc k hk ho).1.trans hv) kk
theorem v_gI (F : Fx w G cc own nL rt rm) {idx c k : Nat} {a kz : Int} (hf : FG own idx c k) (hd : decode cc pc = .ok (.getfield idx, 3)) (hp : PB m a c) (hc : c < 20) (hk : k < k_N c) (hz : (k : Int) = kz) (ht : kI (k_ty c k) = true) (kk : V w l WF G Q d m kc ks (pc + 3) L (mI (d a kz) :: S)) : V w l WF G Q d m kc ks pc L (mA a :: S) :=
  v_fact fun _ hX _ _ => v_getI F hf hd (hp.ob hX hc) hc hk hz ht kk
theorem v_gL (F : Fx w G cc own nL rt rm) {idx c k : Nat} {a kz : Int} (hf : FG own idx c k) (hd : decode cc pc = .ok (.getfield idx, 3)) (hp : PB m a c) (hc : c < 20) (hk : k < k_N c) (hz : (k : Int) = kz) (ht : k_ty c k = .long) (kk : V w l WF G Q d m kc ks (pc + 3) L (mL (d a kz) :: S)) : V w l WF G Q d m kc ks pc L (mA a :: S) :=
  v_fact fun _ hX _ _ => v_getL F hf hd (hp.ob hX hc) hc hk hz ht kk
/-- a reference that isn't owned: null, or what is made of its class -/
theorem v_gR (F : Fx w G cc own nL rt rm) {idx c k t : Nat} {a kz : Int} (hf : FG own idx c k) (hd : decode cc pc = .ok (.getfield idx, 3)) (hp : PB m a c) (hc : c < 20) (hk : k < k_N c) (hz : (k : Int) = kz) (ht : kA (k_ty c k) = true) (hr : isRT (k_ty c k) = true) (htg : k_tg (k_ty c k) = (t : Int) + 1)
    (kk : (d a kz = 0 ∨ PB m (d a kz) t) → V w l WF G Q d m kc ks (pc + 3) L (mA (d a kz) :: S)) : V w l WF G Q d m kc ks pc L (mA a :: S) := by
  subst hz
  refine v_fact fun _ hX _ _ => v_getA F hf hd (hp.ob hX hc) ht rfl (kk ?_)
  have h := (hX.2.2 a (hp.ob hX hc).1).1 c (hp.ob hX hc).2 hc k hk hr
  rw [htg] at h
  exact h
theorem v_pI (F : Fx w G cc own nL rt rm) {idx c k : Nat} {a x kz : Int} (hf : FL own idx c k false) (hd : decode cc pc = .ok (.putfield idx, 3)) (hp : PB m a c) (hc : c < 20) (hz : (k : Int) = kz) (ht : k_ty c k = .int) (ho : k_of c k = 0)
    (kk : V w l WF G Q (st d a kz x) m kc ks (pc + 3) L S) : V w l WF G Q d m kc ks pc L (mI x :: mA a :: S) := by
  subst hz
  exact v_fact fun _ hX _ _ => v_put0 F hf (fun h => by cases h) hd (hp.ob hX hc) (x := x) (fun hcn => by rw [ht]; exact ⟨rfl, hcn, rfl, rfl⟩) (fun _ hX => hX.sto (hp.ob hX hc) hc (Or.inl ho) (fun h => by rw [ht] at h; cases h)) kk
theorem v_pZ (F : Fx w G cc own nL rt rm) {idx c k : Nat} {a x kz : Int} (hf : FL own idx c k false) (hd : decode cc pc = .ok (.putfield idx, 3)) (hp : PB m a c) (hc : c < 20) (hz : (k : Int) = kz) (ht : k_ty c k = .boolean) (ho : k_of c k = 0) (hb : x = 0 ∨ x = 1)
    (kk : V w l WF G Q (st d a kz x) m kc ks (pc + 3) L S) : V w l WF G Q d m kc ks pc L (mI x :: mA a :: S) := by
  subst hz
  exact v_fact fun _ hX _ _ => v_put0 F hf (fun h => by cases h) hd (hp.ob hX hc) (x := x) (fun hcn => by rw [ht]; exact ⟨rfl, hb, fit_of (ty := .boolean) hb rfl⟩) (fun _ hX => hX.sto (hp.ob hX hc) hc (Or.inl ho) (fun h => by rw [ht] at h; cases h)) kk
theorem v_pL (F : Fx w G cc own nL rt rm) {idx c k : Nat} {a x kz : Int} (hf : FL own idx c k false) (hd : decode cc pc = .ok (.putfield idx, 3)) (hp : PB m a c) (hc : c < 20) (hz : (k : Int) = kz) (ht : k_ty c k = .long) (ho : k_of c k = 0)
    (kk : V w l WF G Q (st d a kz x) m kc ks (pc + 3) L S) : V w l WF G Q d m kc ks pc L (mL x :: mA a :: S) := by
  subst hz
  exact v_fact fun _ hX _ _ => v_put0 F hf (fun h => by cases h) hd (hp.ob hX hc) (x := x) (fun hcn => by rw [ht]; exact ⟨rfl, hcn, rfl, rfl⟩) (fun _ hX => hX.sto (hp.ob hX hc) hc (Or.inl ho) (fun h => by rw [ht] at h; cases h)) kk
theorem fitA {ty : FieldType} (h : kA ty = true) (v : Int) : narrow ty (eV w (mA v)) = eV w (mA v) ∧ fits ty (eV w (mA v)) = true := by
  show narrow ty (eR w v) = eR w v ∧ fits ty (eR w v) = true
  rcases @eR_ref w v with q | q <;> rw [q] <;> (cases ty <;> first | exact ⟨rfl, rfl⟩ | (simp [kA] at h))
theorem cT_A {ty : FieldType} (h : kA ty = true) (v : Int) : cT ty v := by cases ty <;> first | exact trivial | (simp [kA] at h)
theorem v_pR (F : Fx w G cc own nL rt rm) {idx c k t : Nat} {a x kz : Int} (hf : FL own idx c k false) (hd : decode cc pc = .ok (.putfield idx, 3)) (hp : PB m a c) (hc : c < 20) (hz : (k : Int) = kz) (ht : kA (k_ty c k) = true) (ho : k_of c k = 0) (htg : k_tg (k_ty c k) = (t : Int) + 1) (hx : x = 0 ∨ PB m x t)
    (kk : V w l WF G Q (st d a kz x) m kc ks (pc + 3) L S) : V w l WF G Q d m kc ks pc L (mA x :: mA a :: S) := by
  subst hz
  exact v_fact fun _ hX _ _ => v_put0 F hf (fun h => by cases h) hd (hp.ob hX hc) (x := x) (fun hcn => ⟨eT_A ht x, cT_A ht x, fitA ht x⟩) (fun _ hX => hX.sto (hp.ob hX hc) hc (Or.inl ho) (fun _ => by rw [htg]; exact hx)) kk
/-! arrays -/
theorem KU.ar {U : State} (h : KU w U) {t : Nat} (ht : (k_tys w)[t - 101]? = some (w.2.2.2.2.1 t, k_el t)) : ArrOfT U (w.2.2.2.2.1 t) (k_el t) := (h.1.2 _ _ ht).1
theorem i32_cl {i : Int} (h : in32 i) : (Int32.ofInt i).toNatClampNeg = i.toNat := by
  unfold Int32.toNatClampNeg
  rw [i32_to h]
theorem in_ok {i n : Int} (h : in32 i) (hi : 0 ≤ i ∧ i < n) : ¬ (Int32.ofInt i < 0 ∨ n.toNat ≤ (Int32.ofInt i).toNatClampNeg) := by
  rw [i32_cl h]
  intro q
  rcases q with q | q
  · have := (i32_lt h in32_0).mp q
    omega
  · omega
theorem RH.cell {H : Heap} (hH : RH w d m H) (hv : VT w d m) {a n : Int} {t : Nat} (ho : AR m a t n) (ht : 100 < t) : H[fA w a]? = some (arrV (w.2.2.2.2.1 t) n.toNat (fun j => eT w (k_el t) (d a j))) := by
  have h := (hH.2.2 a ho.1 (hv.lt (by rw [ho.2.1]; omega))).2 t ho.2.1 ht
  rw [ho.2.2] at h
  exact h
theorem VT.el (hv : VT w d m) {a n i : Int} {t : Nat} (ho : AR m a t n) (ht : 100 < t) (hi : 0 ≤ i ∧ i < n) : cT (k_el t) (d a i) := ((hv.2.2.2.2.2 a ho.1).2 t ho.2.1 ht).2.2.2 i hi.1 (by rw [ho.2.2]; exact hi.2)
theorem v_iald (F : Fx w G cc own nL rt rm) {a i n : Int} (hd : decode cc pc = .ok (.iaload, 1)) (ho : AR m a 101 n) (hi : 0 ≤ i ∧ i < n) (kk : V w l X G Q d m kc ks (pc + 1) L (mI (d a i) :: S)) : V w l X G Q d m kc ks pc L (mI i :: mA a :: S) := by
  intro hv hx hl hs H locs lsR hH hlo hL
  have hc := hH.cell hv ho (by omega)
  have he := hv.el ho (by omega) hi
  have h := kk hv hx hl ⟨he, hs.2.2⟩ H locs lsR hH hlo hL
  show W _ _ _ _ _ _ _ _ _ _ _ _ _ _ _ (F0 _ pc lsR (.int (Int32.ofInt i) :: eR w a :: _))
  rw [eR_pos ho.1]
  refine W.iald F.1 F.2.1 hc (KU.ar F.2.2.2.2.2.1 (t := 101) rfl _ _) (fun q => by cases q) (by rw [arrV_size]; exact in_ok hs.1 hi) (v := eV w (mI (d a i))) ?_ rfl rfl hd h
  rw [i32_cl hs.1, arrV_read _ _ (show i.toNat < n.toNat by omega), Int.toNat_of_nonneg hi.1]
  rfl
theorem v_bald (F : Fx w G cc own nL rt rm) {a i n : Int} (hd : decode cc pc = .ok (.baload, 1)) (ho : AR m a 102 n) (hi : 0 ≤ i ∧ i < n) (kk : V w l X G Q d m kc ks (pc + 1) L (mI (d a i) :: S)) : V w l X G Q d m kc ks pc L (mI i :: mA a :: S) := by
  intro hv hx hl hs H locs lsR hH hlo hL
  have hc := hH.cell hv ho (by omega)
  have he := hv.el ho (by omega) hi
  have h := kk hv hx hl ⟨(by have : -128 ≤ d a i ∧ d a i ≤ 127 := he; unfold cn in32; omega), hs.2.2⟩ H locs lsR hH hlo hL
  show W _ _ _ _ _ _ _ _ _ _ _ _ _ _ _ (F0 _ pc lsR (.int (Int32.ofInt i) :: eR w a :: _))
  rw [eR_pos ho.1]
  refine W.bald F.1 F.2.1 hc (KU.ar F.2.2.2.2.2.1 (t := 102) rfl _ _) (fun q => by cases q) (by rw [arrV_size]; exact in_ok hs.1 hi) (v := eV w (mI (d a i))) ?_ rfl rfl hd h
  rw [i32_cl hs.1, arrV_read _ _ (show i.toNat < n.toNat by omega), Int.toNat_of_nonneg hi.1]
  rfl
theorem v_zald (F : Fx w G cc own nL rt rm) {a i n : Int} (hd : decode cc pc = .ok (.baload, 1)) (ho : AR m a 103 n) (hi : 0 ≤ i ∧ i < n) (kk : V w l X G Q d m kc ks (pc + 1) L (mI (d a i) :: S)) : V w l X G Q d m kc ks pc L (mI i :: mA a :: S) := by
  intro hv hx hl hs H locs lsR hH hlo hL
  have hc := hH.cell hv ho (by omega)
  have he := hv.el ho (by omega) hi
  have h := kk hv hx hl ⟨(by have : d a i = 0 ∨ d a i = 1 := he; unfold cn in32; omega), hs.2.2⟩ H locs lsR hH hlo hL
  show W _ _ _ _ _ _ _ _ _ _ _ _ _ _ _ (F0 _ pc lsR (.int (Int32.ofInt i) :: eR w a :: _))
  rw [eR_pos ho.1]
  refine W.zald F.1 F.2.1 hc (KU.ar F.2.2.2.2.2.1 (t := 103) rfl _ _) (fun q => by cases q) (by rw [arrV_size]; exact in_ok hs.1 hi) (v := eV w (mI (d a i))) ?_ rfl rfl hd h
  rw [i32_cl hs.1, arrV_read _ _ (show i.toNat < n.toNat by omega), Int.toNat_of_nonneg hi.1]
  rfl
theorem v_lald (F : Fx w G cc own nL rt rm) {a i n : Int} (hd : decode cc pc = .ok (.laload, 1)) (ho : AR m a 104 n) (hi : 0 ≤ i ∧ i < n) (kk : V w l X G Q d m kc ks (pc + 1) L (mL (d a i) :: S)) : V w l X G Q d m kc ks pc L (mI i :: mA a :: S) := by
  intro hv hx hl hs H locs lsR hH hlo hL
  have hc := hH.cell hv ho (by omega)
  have he := hv.el ho (by omega) hi
  have h := kk hv hx hl ⟨he, hs.2.2⟩ H locs lsR hH hlo hL
  show W _ _ _ _ _ _ _ _ _ _ _ _ _ _ _ (F0 _ pc lsR (.int (Int32.ofInt i) :: eR w a :: _))
  rw [eR_pos ho.1]
  refine W.lald F.1 F.2.1 hc (KU.ar F.2.2.2.2.2.1 (t := 104) rfl _ _) (fun q => by cases q) (by rw [arrV_size]; exact in_ok hs.1 hi) (v := eV w (mL (d a i))) ?_ rfl rfl hd h
  rw [i32_cl hs.1, arrV_read _ _ (show i.toNat < n.toNat by omega), Int.toNat_of_nonneg hi.1]
  rfl
theorem v_aald (F : Fx w G cc own nL rt rm) {a i n : Int} {t : Nat} (hd : decode cc pc = .ok (.aaload, 1)) (ho : AR m a t n) (ht : 100 < t) (hk : (k_tys w)[t - 101]? = some (w.2.2.2.2.1 t, k_el t)) (hA : kA (k_el t) = true) (hR : (k_el t).isReference = true) (hi : 0 ≤ i ∧ i < n) {v : Int} (hvl : VT w d m → X d m → d a i = v) (kk : V w l X G Q d m kc ks (pc + 1) L (mA v :: S)) : V w l X G Q d m kc ks pc L (mI i :: mA a :: S) := by
  intro hv hx hl hs H locs lsR hH hlo hL
  have hc := hH.cell hv ho ht
  have h := kk hv hx hl ⟨trivial, hs.2.2⟩ H locs lsR hH hlo hL
  show W _ _ _ _ _ _ _ _ _ _ _ _ _ _ _ (F0 _ pc lsR (.int (Int32.ofInt i) :: eR w a :: _))
  rw [eR_pos ho.1]
  refine W.aald F.1 F.2.1 hc (KU.ar F.2.2.2.2.2.1 hk _ _) hR (fun q => by cases q) (by rw [arrV_size]; exact in_ok hs.1 hi) (v := eV w (mA v)) ?_ rfl rfl hd h
  rw [i32_cl hs.1, arrV_read _ _ (show i.toNat < n.toNat by omega), Int.toNat_of_nonneg hi.1, eT_A hA, hvl hv hx]
/-- an element that the array's owner owns -/
theorem v_aaldF (F : Fx w G cc own nL rt rm) {a b i n v : Int} {c k t : Nat} (hd : decode cc pc = .ok (.aaload, 1)) (hp : PB m b c) (hc : c < 20) (hk : k < k_N c) (ho : k_of c k ≠ 0) (hs : k_es c k ≠ 0) (ha : b + k_of c k = a) (har : AR m a t n) (ht : 100 < t) (hn : k_ln c k = n) (hkt : (k_tys w)[t - 101]? = some (w.2.2.2.2.1 t, k_el t)) (hA : kA (k_el t) = true) (hR : (k_el t).isReference = true) (hi : 0 ≤ i ∧ i < n) (hv : b + k_eb c k + k_es c k * i = v) (kk : V w l WF G Q d m kc ks (pc + 1) L (mA v :: S)) : V w l WF G Q d m kc ks pc L (mI i :: mA a :: S) :=
  v_aald F hd har ht hkt hA hR hi (fun _ hX => by
    have h := ((hX.2.1 b c hp hc k hk ho).2.2.2 hs i hi.1 (by rw [hn]; exact hi.2)).1
    rw [ha] at h
    exact h.trans hv) kk
/-- an element that is null, or made -/
theorem v_aaldR (F : Fx w G cc own nL rt rm) {a i n : Int} {t c : Nat} (hd : decode cc pc = .ok (.aaload, 1)) (ho : AR m a t n) (ht : 100 < t) (hk : (k_tys w)[t - 101]? = some (w.2.2.2.2.1 t, k_el t)) (hA : kA (k_el t) = true) (hR : (k_el t).isReference = true) (hr : isRT (k_el t) = true) (htg : k_tg (k_el t) = (c : Int) + 1) (hi : 0 ≤ i ∧ i < n) (kk : (d a i = 0 ∨ PB m (d a i) c) → V w l WF G Q d m kc ks (pc + 1) L (mA (d a i) :: S)) : V w l WF G Q d m kc ks pc L (mI i :: mA a :: S) :=
  v_fact fun hv hX _ _ => v_aald F hd ho ht hk hA hR hi (fun _ _ => rfl) (kk (by
    have h := (hX.2.2 a ho.1).2 t ho.2.1 ht hr i hi.1 (by rw [ho.2.2]; exact hi.2)
    rw [htg] at h
    exact h))
theorem v_alen (F : Fx w G cc own nL rt rm) {a n : Int} {t : Nat} (hd : decode cc pc = .ok (.arraylength, 1)) (ho : AR m a t n) (ht : 100 < t) (hk : (k_tys w)[t - 101]? = some (w.2.2.2.2.1 t, k_el t)) (kk : V w l X G Q d m kc ks (pc + 1) L (mI n :: S)) : V w l X G Q d m kc ks pc L (mA a :: S) := by
  intro hv hx hl hs H locs lsR hH hlo hL
  have hc := hH.cell hv ho ht
  obtain ⟨-, n1, n2, -⟩ := (hv.2.2.2.2.2 a ho.1).2 t ho.2.1 ht
  rw [ho.2.2] at n1 n2
  have h := kk hv hx hl ⟨by unfold cn in32; omega, hs.2⟩ H locs lsR hH hlo hL
  show W _ _ _ _ _ _ _ _ _ _ _ _ _ _ _ (F0 _ pc lsR (eR w a :: _))
  rw [eR_pos ho.1]
  refine W.alen F.1 F.2.1 hc (KU.ar F.2.2.2.2.2.1 hk _ _) (n := Int32.ofInt n) ?_ rfl rfl hd h
  rw [arrV_size]
  show Int32.ofNat n.toNat = _
  rw [← Int32.ofInt_eq_ofNat, Int.toNat_of_nonneg n1]
theorem v_iast0 (F : Fx w G cc own nL rt rm) {a i n x : Int} (hd : decode cc pc = .ok (.iastore, 1)) (ho : AR m a 101 n) (hi : 0 ≤ i ∧ i < n) (hX : VT w d m → X d m → X (st d a i (x)) m) (kk : V w l X G Q (st d a i (x)) m kc ks (pc + 1) L S) : V w l X G Q d m kc ks pc L (mI x :: mI i :: mA a :: S) := by
  intro hv hx hl hs H locs lsR hH hlo hL
  have hc := hH.cell hv ho (by omega)
  show W _ _ _ _ _ _ _ _ _ _ _ _ _ _ _ (F0 _ pc lsR (eV w (mI x) :: .int (Int32.ofInt i) :: eR w a :: _))
  rw [eR_pos ho.1]
  refine W.iast F.1 F.2.1 hc (KU.ar F.2.2.2.2.2.1 (t := 101) rfl _ _) (fun q => by cases q) (by rw [arrV_size]; exact in_ok hs.2.1 hi) rfl rfl hd fun H' e1 e2 e3 => ?_
  refine kk (hv.sta ho (by omega) (hs.1)) (hX hv hx) hl hs.2.2.2 H' _ lsR (hH.sta ho (by omega) hi.1 ?_ e2 e3) (fun q hq => ?_) hL
  · rw [i32_cl hs.2.1] at e1
    rw [e1, ho.2.2]
    congr 2
  · rcases List.mem_append.mp hq with h | h
    · exact hlo q h
    · rw [List.mem_singleton.mp h]
      show w.1.size ≤ fA w a
      rw [fA_pos ho.1]; omega
theorem v_last0 (F : Fx w G cc own nL rt rm) {a i n x : Int} (hd : decode cc pc = .ok (.lastore, 1)) (ho : AR m a 104 n) (hi : 0 ≤ i ∧ i < n) (hX : VT w d m → X d m → X (st d a i (x)) m) (kk : V w l X G Q (st d a i (x)) m kc ks (pc + 1) L S) : V w l X G Q d m kc ks pc L (mL x :: mI i :: mA a :: S) := by
  intro hv hx hl hs H locs lsR hH hlo hL
  have hc := hH.cell hv ho (by omega)
  show W _ _ _ _ _ _ _ _ _ _ _ _ _ _ _ (F0 _ pc lsR (eV w (mL x) :: .int (Int32.ofInt i) :: eR w a :: _))
  rw [eR_pos ho.1]
  refine W.last F.1 F.2.1 hc (KU.ar F.2.2.2.2.2.1 (t := 104) rfl _ _) (fun q => by cases q) (by rw [arrV_size]; exact in_ok hs.2.1 hi) rfl rfl hd fun H' e1 e2 e3 => ?_
  refine kk (hv.sta ho (by omega) (hs.1)) (hX hv hx) hl hs.2.2.2 H' _ lsR (hH.sta ho (by omega) hi.1 ?_ e2 e3) (fun q hq => ?_) hL
  · rw [i32_cl hs.2.1] at e1
    rw [e1, ho.2.2]
    congr 2
  · rcases List.mem_append.mp hq with h | h
    · exact hlo q h
    · rw [List.mem_singleton.mp h]
      show w.1.size ≤ fA w a
      rw [fA_pos ho.1]; omega
theorem nar_b {x : Int} (h : in32 x) : narrow .byte (.int (Int32.ofInt x)) = .int (Int32.ofInt (w8 x)) := by
  simp only [narrow]
  rw [i8_i2b h]
theorem nar_z {x : Int} (h : in32 x) : narrow .boolean (.int (Int32.ofInt x)) = .int (Int32.ofInt (x % 2)) := by
  simp only [narrow]
  congr 1
  rw [pk_and (Int32.ofInt x) (m := 1) 1 (by decide)]
  have e : (Int32.ofInt x).toBitVec.toNat = (x % 4294967296).toNat := by
    show (BitVec.ofInt 32 x).toNat = _
    rw [BitVec.toNat_ofInt]
    rfl
  rw [e]
  show Int32.ofNat _ = _
  rw [← Int32.ofInt_eq_ofNat]
  congr 1
  omega
theorem v_bast0 (F : Fx w G cc own nL rt rm) {a i n x : Int} (hd : decode cc pc = .ok (.bastore, 1)) (ho : AR m a 102 n) (hi : 0 ≤ i ∧ i < n) (hX : VT w d m → X d m → X (st d a i (w8 x)) m) (kk : V w l X G Q (st d a i (w8 x)) m kc ks (pc + 1) L S) : V w l X G Q d m kc ks pc L (mI x :: mI i :: mA a :: S) := by
  intro hv hx hl hs H locs lsR hH hlo hL
  have hc := hH.cell hv ho (by omega)
  show W _ _ _ _ _ _ _ _ _ _ _ _ _ _ _ (F0 _ pc lsR (eV w (mI x) :: .int (Int32.ofInt i) :: eR w a :: _))
  rw [eR_pos ho.1]
  refine W.bast F.1 F.2.1 hc (KU.ar F.2.2.2.2.2.1 (t := 102) rfl _ _) (fun q => by cases q) (by rw [arrV_size]; exact in_ok hs.2.1 hi) rfl rfl hd fun H' e1 e2 e3 => ?_
  refine kk (hv.sta ho (by omega) (show -128 ≤ w8 x ∧ w8 x ≤ 127 by unfold w8; omega)) (hX hv hx) hl hs.2.2.2 H' _ lsR (hH.sta ho (by omega) hi.1 ?_ e2 e3) (fun q hq => ?_) hL
  · rw [i32_cl hs.2.1] at e1
    rw [e1, ho.2.2]
    congr 2
    exact nar_b hs.1
  · rcases List.mem_append.mp hq with h | h
    · exact hlo q h
    · rw [List.mem_singleton.mp h]
      show w.1.size ≤ fA w a
      rw [fA_pos ho.1]; omega
theorem v_zast0 (F : Fx w G cc own nL rt rm) {a i n x : Int} (hd : decode cc pc = .ok (.bastore, 1)) (ho : AR m a 103 n) (hi : 0 ≤ i ∧ i < n) (hX : VT w d m → X d m → X (st d a i (x % 2)) m) (kk : V w l X G Q (st d a i (x % 2)) m kc ks (pc + 1) L S) : V w l X G Q d m kc ks pc L (mI x :: mI i :: mA a :: S) := by
  intro hv hx hl hs H locs lsR hH hlo hL
  have hc := hH.cell hv ho (by omega)
  show W _ _ _ _ _ _ _ _ _ _ _ _ _ _ _ (F0 _ pc lsR (eV w (mI x) :: .int (Int32.ofInt i) :: eR w a :: _))
  rw [eR_pos ho.1]
  refine W.zast F.1 F.2.1 hc (KU.ar F.2.2.2.2.2.1 (t := 103) rfl _ _) (fun q => by cases q) (by rw [arrV_size]; exact in_ok hs.2.1 hi) rfl rfl hd fun H' e1 e2 e3 => ?_
  refine kk (hv.sta ho (by omega) (show x % 2 = 0 ∨ x % 2 = 1 by omega)) (hX hv hx) hl hs.2.2.2 H' _ lsR (hH.sta ho (by omega) hi.1 ?_ e2 e3) (fun q hq => ?_) hL
  · rw [i32_cl hs.2.1] at e1
    rw [e1, ho.2.2]
    congr 2
    exact nar_z hs.1
  · rcases List.mem_append.mp hq with h | h
    · exact hlo q h
    · rw [List.mem_singleton.mp h]
      show w.1.size ≤ fA w a
      rw [fA_pos ho.1]; omega
theorem v_iast (F : Fx w G cc own nL rt rm) {a i n x : Int} (hd : decode cc pc = .ok (.iastore, 1)) (ho : AR m a 101 n) (hi : 0 ≤ i ∧ i < n) (kk : V w l WF G Q (st d a i (x)) m kc ks (pc + 1) L S) : V w l WF G Q d m kc ks pc L (mI x :: mI i :: mA a :: S) :=
  v_iast0 F hd ho hi (fun _ hX => hX.sta ho (by omega) rfl (fun h => by cases h)) kk
theorem v_last (F : Fx w G cc own nL rt rm) {a i n x : Int} (hd : decode cc pc = .ok (.lastore, 1)) (ho : AR m a 104 n) (hi : 0 ≤ i ∧ i < n) (kk : V w l WF G Q (st d a i (x)) m kc ks (pc + 1) L S) : V w l WF G Q d m kc ks pc L (mL x :: mI i :: mA a :: S) :=
  v_last0 F hd ho hi (fun _ hX => hX.sta ho (by omega) rfl (fun h => by cases h)) kk
theorem v_bast (F : Fx w G cc own nL rt rm) {a i n x : Int} (hd : decode cc pc = .ok (.bastore, 1)) (ho : AR m a 102 n) (hi : 0 ≤ i ∧ i < n) (kk : V w l WF G Q (st d a i (w8 x)) m kc ks (pc + 1) L S) : V w l WF G Q d m kc ks pc L (mI x :: mI i :: mA a :: S) :=
  v_bast0 F hd ho hi (fun _ hX => hX.sta ho (by omega) rfl (fun h => by cases h)) kk
theorem v_zast (F : Fx w G cc own nL rt rm) {a i n x : Int} (hd : decode cc pc = .ok (.bastore, 1)) (ho : AR m a 103 n) (hi : 0 ≤ i ∧ i < n) (kk : V w l WF G Q (st d a i (x % 2)) m kc ks (pc + 1) L S) : V w l WF G Q d m kc ks pc L (mI x :: mI i :: mA a :: S) :=
  v_zast0 F hd ho hi (fun _ hX => hX.sta ho (by omega) rfl (fun h => by cases h)) kk
end VH
