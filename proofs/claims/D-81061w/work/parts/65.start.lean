/-! the law's entry: both objects are made, then the loop -/
set_option maxRecDepth 100000
set_option maxHeartbeats 4000000
def d00 : Dt := fun _ _ => 0
def m00 : Dt := fun a k => if a = 0 ∧ k = 0 then 1 else if a < 0 then mOld a k else 0
def mX0 : Dt := pubF (al TSX0_init (aln m00 ((0 : Nat) + 1 : Int) 0)) 1 1545
def mM0 : Dt := pubF (al TSX11_init (aln mX0 ((11 : Nat) + 1 : Int) 0)) 1545 1666
theorem m00_0 : m00 0 0 = 1 := by unfold m00; rw [if_pos ⟨rfl, rfl⟩]
theorem m00_n {a k : Int} (h : a < 0) : m00 a k = mOld a k := by unfold m00; rw [if_neg (by omega), if_pos h]
theorem m00_p {a k : Int} (h : 0 ≤ a) (h2 : ¬ (a = 0 ∧ k = 0)) : m00 a k = 0 := by unfold m00; rw [if_neg h2, if_neg (by omega)]
theorem isSb_neg {a : Int} (h : isSb a = true) : a < 0 := (isS_neg (a := a) h).1
theorem VT00 {w : Wd} (h1 : w.2.2.2.2.2.1 = mOld) (h2 : w.2.2.2.2.2.2 = (fun _ _ => 0)) : VT w d00 m00 := by
  refine ⟨by rw [m00_0]; omega, fun a k _ => rfl, fun a j ha => ?_, ⟨m00_p (by omega) (by omega), m00_p (by omega) (by omega)⟩, fun a k ha => ?_, fun a ha => ⟨fun c e _ => ?_, fun t e ht => ?_⟩⟩
  · rw [m00_0] at ha
    exact m00_p (by omega) (by omega)
  · rw [h1, h2]
    exact ⟨m00_n ha, rfl⟩
  · rw [m00_p (by omega) (by omega)] at e
    omega
  · rw [m00_p (by omega) (by omega)] at e
    omega
theorem WF00 : WF d00 m00 := by
  refine ⟨fun a ha => ?_, fun a c e1 e2 k e3 e4 => ?_, fun a ha => ⟨fun c e1 e2 k e3 e4 => Or.inl rfl, fun t e1 e2 e3 i i1 i2 => Or.inl rfl⟩⟩
  · rcases Int.lt_or_le a 0 with q | q
    · rw [m00_n q] at ha ⊢
      rw [m00_n q]
      unfold mOld at ha ⊢
      by_cases e : isSb a = true
      · rw [if_pos ⟨e, Or.inl rfl⟩, if_pos ⟨e, Or.inr rfl⟩]
        exact ⟨rfl, fun h => absurd h (by decide)⟩
      · rw [if_neg (fun q => e q.1)] at ha
        exact absurd rfl ha
    · rw [m00_p q (by omega)] at ha
      exact absurd rfl ha
  · rcases Int.lt_or_le a 0 with q | q
    · rw [m00_n q] at e1
      unfold mOld at e1
      split at e1 <;> omega
    · rw [m00_p q (by omega)] at e1
      omega
theorem RH00 {w : Wd} : RH w d00 m00 w.1 := ⟨by rw [m00_0]; omega, fun _ _ => rfl, fun a h1 h2 => by rw [m00_0] at h2; omega⟩
theorem mstr {v : Int} (h : isSb v = true) : mOld v 3 = 120 := by unfold mOld; rw [if_pos ⟨h, Or.inr rfl⟩]
theorem mX0_nx : mX0 0 0 = 1545 := by
  unfold mX0
  rw [pubF_o (Or.inl (by decide))]
  exact (al_nxo rfl (o := 1) (a := 1) (by rw [aln_next (by rw [m00_0]; decide), m00_0]) (by decide) (by decide) alX0_init rfl).trans rfl
theorem mX0_neg {v k : Int} (h : v < 0) : mX0 v k = m00 v k := by
  unfold mX0
  have h1 : aln m00 ((0 : Nat) + 1 : Int) 0 0 0 = 2 := by rw [aln_next (by rw [m00_0]; decide), m00_0]; rfl
  rw [pubF_o (Or.inr (Or.inl (by omega))), al_old rfl (by rw [h1]; decide) (by rw [h1]; omega) (by omega), aln_old (by rw [m00_0]; omega) (by omega)]
theorem mM0_nx : mM0 0 0 = 1666 := by
  unfold mM0
  rw [pubF_o (Or.inl (by decide))]
  exact (al_nxo rfl (o := 1545) (a := 1) (by rw [aln_next (by rw [mX0_nx]; decide), mX0_nx]) (by decide) (by decide) alX11_init rfl).trans rfl
theorem mM0_X : PB mM0 1 0 := by
  have h1 : aln mX0 ((11 : Nat) + 1 : Int) 0 0 0 = 1546 := by rw [aln_next (by rw [mX0_nx]; decide), mX0_nx]; rfl
  have h2 : aln m00 ((0 : Nat) + 1 : Int) 0 0 0 = 2 := by rw [aln_next (by rw [m00_0]; decide), m00_0]; rfl
  show mM0 1 3 = _
  unfold mM0
  rw [pubF_o (Or.inr (Or.inl (by decide))), al_old rfl (by rw [h1]; decide) (by rw [h1]; decide) (by decide), aln_old (by rw [mX0_nx]; decide) (by decide)]
  unfold mX0
  rw [pubF_3 ⟨by decide, by decide⟩, al_old rfl (by rw [h2]; decide) (by rw [h2]; decide) (by decide)]
  have := @aln_1 m00 ((0 : Nat) + 1 : Int) 0
  rw [m00_0] at this
  exact this
theorem mM0_M : PB mM0 1545 11 := by
  have h1 : aln mX0 ((11 : Nat) + 1 : Int) 0 0 0 = 1546 := by rw [aln_next (by rw [mX0_nx]; decide), mX0_nx]; rfl
  show mM0 1545 3 = _
  unfold mM0
  rw [pubF_3 ⟨by decide, by decide⟩, al_old rfl (by rw [h1]; decide) (by rw [h1]; decide) (by decide)]
  have := @aln_1 mX0 ((11 : Nat) + 1 : Int) 0
  rw [mX0_nx] at this
  exact this
theorem law_end {w : Wd} {p : Program} {l : Launch} {e : Env} {s : State} {m : MethodId} {below : List Frame} {meth : Method} {c : Code} {b : Nat} (hw : w.1 = s.heap) (F : Fx w (p, e, room_1, s, m, #[Value.ref b], below, meth, c) code R_law 4 ret room_1) (dd mm : Dt) (kc ks : Nat) (i : Int) (h1 : kc ≤ room_1.cells) (h2 : ks ≤ room_1.slots) :
    V w l WF (p, e, room_1, s, m, #[Value.ref b], below, meth, c) (lw_Z below #[Value.ref b] s) dd mm kc ks 2212 [mA (-1), mA 1, mA 1545, mI i] [] := by
  refine v_iconst F dL_law_2212 ⟨by decide, by decide⟩ ?_
  intro hv hx hl hs H locs lsR hH hlo hL
  refine va_forget (fun q hq => by rw [← hw]; exact hlo q hq) (W.widen h1 h2 ?_)
  exact lw_ret F.1 F.2.1 F.2.2.2.2.2.2.1 F.2.2.2.2.2.2.2.1 dL_law_2213
/-- the whole, out of what the pure functions do -/
theorem start_of {I : Nat → Dt → Dt → Prop} {dX dM : Dt} (hSim : ∀ w : Wd, Sim w I) (hdX : fX0_init_352 (wr 1 WSX0_init d00) 0 = some dX) (hdM : fX11_init_1498 (wr 1545 WSX11_init dX) 0 = some dM) (hz : ∀ k, dX 1545 k = 0) (hI : I 0 dM mM0)
    {p : Program} {e : Env} {s : State} {m : MethodId} {below : List Frame} {meth : Method} {c : Code} (l : Launch) {b L : Nat} {xs : Nat → Int32} (hL : L ≤ 384) (C0 : lw_At p s m meth c b L xs) : W p l e room_1 s m #[Value.ref b] below meth c s.heap [] 0 0 (lw_Z below #[Value.ref b] s) (entryFrame m ([Value.ref b] : List Value).toArray 4) := by
  obtain ⟨c1, c2, c3, c4, c5, c6, c7, c8, c9, c10⟩ := C0
  obtain ⟨w, w1, w2, w3, w4, hKU⟩ := world c6 c7 c8 c10
  have hts : ∀ q ∈ lw_all, q.before #[Value.ref b] s = true := fun q h => c6 q (lw_all_tbl h)
  have F : Fx w (p, e, room_1, s, m, #[Value.ref b], below, meth, c) code R_law 4 ret room_1 := ⟨c1, c2, c4, c5, hts, hKU, c3, c9, rfl⟩
  have hT : va_T .int (w.2.1 (-1)) (L : Int).toNat (fun j => .int (Int32.ofInt ((fun j : Int => (xs j.toNat).toInt) j))) (fun q => w.1.size ≤ q) s w.1 := by
    obtain ⟨scr, a1, a2, a3, a4, a5⟩ := c7
    rw [w1, w2]
    refine ⟨scr, a1, a2, a3, by rw [a4]; omega, by rw [a4]; rfl, fun j hj => ?_, fun h => ?_⟩
    · show _ = some (Value.int (Int32.ofInt (xs ((j : Int).toNat)).toInt))
      rw [i32_of]
      exact a5 j (by omega)
    · have h : s.heap.size ≤ b := h
      omega
  have hv0 := VT00 w3 w4
  have key : V w l WF (p, e, room_1, s, m, #[Value.ref b], below, meth, c) (lw_Z below #[Value.ref b] s) d00 m00 0 0 0 [mA (-1), mU, mU, mU] [] := by
    refine v_new (c := 0) (n := 49) F dL_law_0 rfl (Nat.le_of_ble_eq_true rfl) rfl ok_X0 q309 q310 q282 in_X0 tyX0_ok (fun hv hX => hX.grow hv) (Nat.le_of_ble_eq_true rfl) (Nat.le_of_ble_eq_true rfl) m00_0 ?_
    obtain ⟨m1, em1⟩ : ∃ z, z = aln m00 ((0 : Nat) + 1 : Int) 0 := ⟨_, rfl⟩
    refine v_nM em1 ?_
    have hm1 : m1 0 0 = 1 + 1 := by rw [em1, aln_next (by rw [m00_0]; decide), m00_0]
    have ob1 : OB m1 1 0 := ⟨by decide, by rw [em1]; have := @aln_1 m00 ((0 : Nat) + 1 : Int) 0; rw [m00_0] at this; exact this⟩
    have u1 : m1 1 3 = 0 := by rw [em1]; have := @aln_3 m00 ((0 : Nat) + 1 : Int) 0; rw [m00_0] at this; exact this
    have ng1 : ∀ v : Int, isSb v = true → m1 v 3 = 120 := fun v hv => by
      have := isSb_neg hv
      rw [em1, aln_old (by rw [m00_0]; omega) (by omega), m00_n this]
      exact mstr hv
    refine v_dup_A F dL_law_3 ?_
    refine v_fact fun hv1 hX1 _ _ => ?_
    refine v_X (Y := XT) (fun _ _ => trivial) ?_
    refine v_callI2 F dL_law_4 cn_L_9 rfl (by decide) (vm_X0_init hm1 ob1 (fun hv _ => hX1.ext hv ob1 (by decide) u1 hm1 (fun _ => rfl) ng1 rfl rfl (n := 1544) rfl chkX0) hdX) rfl ⟨(Nat.le_of_ble_eq_true rfl), (Nat.le_of_ble_eq_true rfl), (Nat.le_of_ble_eq_true rfl), (Nat.le_of_ble_eq_true rfl), (Nat.le_of_ble_eq_true rfl)⟩ ?_
    rw [em1]
    refine v_nM (show mX0 = _ from rfl) ?_
    refine v_astore_n F dL_law_7 rfl (Nat.le_of_ble_eq_true rfl) (L' := [mA (-1), mA 1, mU, mU]) rfl ?_
    refine v_new (c := 11) (n := 172) F dL_law_8 rfl (Nat.le_of_ble_eq_true rfl) rfl ok_X11 q3268 q2432 q296 in_X11 tyX11_ok (fun hv hX => hX.grow hv) (Nat.le_of_ble_eq_true rfl) (Nat.le_of_ble_eq_true rfl) mX0_nx ?_
    obtain ⟨m2, em2⟩ : ∃ z, z = aln mX0 ((11 : Nat) + 1 : Int) 0 := ⟨_, rfl⟩
    refine v_nM em2 ?_
    have hm2 : m2 0 0 = 1545 + 1 := by rw [em2, aln_next (by rw [mX0_nx]; decide), mX0_nx]
    have ob2 : OB m2 1545 11 := ⟨by decide, by rw [em2]; have := @aln_1 mX0 ((11 : Nat) + 1 : Int) 0; rw [mX0_nx] at this; exact this⟩
    have u2 : m2 1545 3 = 0 := by rw [em2]; have := @aln_3 mX0 ((11 : Nat) + 1 : Int) 0; rw [mX0_nx] at this; exact this
    have ng2 : ∀ v : Int, isSb v = true → m2 v 3 = 120 := fun v hv => by
      have := isSb_neg hv
      rw [em2, aln_old (by rw [mX0_nx]; omega) (by omega), mX0_neg this, m00_n this]
      exact mstr hv
    refine v_dup_A F dL_law_11 ?_
    refine v_callI2 F dL_law_12 cn_L_12 rfl (by decide) (vm_X11_init hm2 ob2 (fun hv hX => hX.ext hv ob2 (by decide) u2 hm2 hz ng2 rfl rfl (n := 121) rfl chkX11) hdM) rfl ⟨(Nat.le_of_ble_eq_true rfl), (Nat.le_of_ble_eq_true rfl), (Nat.le_of_ble_eq_true rfl), (Nat.le_of_ble_eq_true rfl), (Nat.le_of_ble_eq_true rfl)⟩ ?_
    rw [em2]
    refine v_nM (show mM0 = _ from rfl) ?_
    refine v_astore_n F dL_law_15 rfl (Nat.le_of_ble_eq_true rfl) (L' := [mA (-1), mA 1, mA 1545, mU]) rfl ?_
    refine v_iconst F dL_law_16 ⟨by decide, by decide⟩ ?_
    refine v_istore_n F dL_law_17 rfl (Nat.le_of_ble_eq_true rfl) (L' := [mA (-1), mA 1, mA 1545, mI 0]) rfl ?_
    exact law_loop (n := (L : Int)) (f := fun j => (xs j.toNat).toInt) (C0 := 1665) (S0 := 166994) F hT (fun j => in32_to _) (by omega) (Nat.le_of_ble_eq_true rfl) (Nat.le_of_ble_eq_true rfl) (hSim w) (law_end w1 F) 64 0 dM mM0 rfl mM0_X mM0_M hI
  rw [lg_entry_eq]
  have hlr := LR.entry (w := w) (as := [mA (-1)]) (nL := 4) (by decide)
  have e1 : ([mA (-1)] : List MV).map (eV w) = [Value.ref b] := by
    show [eR w (-1)] = _
    rw [eR_old (by decide), w2]
  rw [e1] at hlr
  exact key hv0 WF00 ⟨trivial, trivial, trivial, trivial, trivial⟩ trivial s.heap [] _ (by rw [← w1]; exact RH00) (fun q hq => by cases hq) (by show LR w _ c.maxLocals _; rw [c4]; exact hlr)
