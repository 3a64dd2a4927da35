set_option maxRecDepth 100000
def nwX13 (o a1 a2 a3 b : Int) (d : Dt) : Dt := (st (st (st (st (st (st (st (st (st (st (st d o 4 36525) o 6 (o + 1)) o 7 (o + 2)) o 9 (o + 3)) o 10 (o + 4)) o 11 (o + 5)) o 12 (o + 6)) o 0 a1) o 1 a2) o 2 a3) o 3 b)
def na_X13 (m : Dt) : Dt := (alp (alp (alp (alp (alp (alp m ((101 : Nat) : Int) 10) ((101 : Nat) : Int) 10) ((101 : Nat) : Int) 12) ((101 : Nat) : Int) 12) ((101 : Nat) : Int) 12) ((101 : Nat) : Int) 12)
def nt_X13 (m : Dt) : Dt := st (na_X13 (aln m ((12 : Nat) + 1 : Int) 0)) (m 0 0) 3 ((12 : Nat) + 1 : Int)
theorem ns_X13 {m : Dt} {o : Int} (hm : m 0 0 = o + 1) (ho : 0 < o) : NK m (na_X13 m) o 7 ∧ (na_X13 m (o + 1) 3 = 101 ∧ na_X13 m (o + 1) 2 = 10) ∧ (na_X13 m (o + 2) 3 = 101 ∧ na_X13 m (o + 2) 2 = 10) ∧ (na_X13 m (o + 3) 3 = 101 ∧ na_X13 m (o + 3) 2 = 12) ∧ (na_X13 m (o + 4) 3 = 101 ∧ na_X13 m (o + 4) 2 = 12) ∧ (na_X13 m (o + 5) 3 = 101 ∧ na_X13 m (o + 5) 2 = 12) ∧ (na_X13 m (o + 6) 3 = 101 ∧ na_X13 m (o + 6) 2 = 12) ∧ True := by
  unfold na_X13
  obtain ⟨m1, em1⟩ : ∃ z, z = alp m ((101 : Nat) : Int) 10 := ⟨_, rfl⟩
  rw [← em1]
  have hm1 : m1 0 0 = o + 2 := by rw [em1]; exact alp_nx hm (by omega) (by omega)
  have km1 : ∀ x j : Int, x < o + 1 → ¬ (x = 0 ∧ j = 0) → m1 x j = m x j := fun x j hx h0 => by rw [em1]; exact alp_old (by omega) h0
  have am1 : m1 (o + 1) 3 = 101 ∧ m1 (o + 1) 2 = 10 := by rw [em1]; exact ⟨alp_3 hm, alp_2 hm⟩
  obtain ⟨m2, em2⟩ : ∃ z, z = alp m1 ((101 : Nat) : Int) 10 := ⟨_, rfl⟩
  rw [← em2]
  have hm2 : m2 0 0 = o + 3 := by rw [em2]; exact alp_nx hm1 (by omega) (by omega)
  have km2 : ∀ x j : Int, x < o + 2 → ¬ (x = 0 ∧ j = 0) → m2 x j = m1 x j := fun x j hx h0 => by rw [em2]; exact alp_old (by omega) h0
  have am2 : m2 (o + 2) 3 = 101 ∧ m2 (o + 2) 2 = 10 := by rw [em2]; exact ⟨alp_3 hm1, alp_2 hm1⟩
  obtain ⟨m3, em3⟩ : ∃ z, z = alp m2 ((101 : Nat) : Int) 12 := ⟨_, rfl⟩
  rw [← em3]
  have hm3 : m3 0 0 = o + 4 := by rw [em3]; exact alp_nx hm2 (by omega) (by omega)
  have km3 : ∀ x j : Int, x < o + 3 → ¬ (x = 0 ∧ j = 0) → m3 x j = m2 x j := fun x j hx h0 => by rw [em3]; exact alp_old (by omega) h0
  have am3 : m3 (o + 3) 3 = 101 ∧ m3 (o + 3) 2 = 12 := by rw [em3]; exact ⟨alp_3 hm2, alp_2 hm2⟩
  obtain ⟨m4, em4⟩ : ∃ z, z = alp m3 ((101 : Nat) : Int) 12 := ⟨_, rfl⟩
  rw [← em4]
  have hm4 : m4 0 0 = o + 5 := by rw [em4]; exact alp_nx hm3 (by omega) (by omega)
  have km4 : ∀ x j : Int, x < o + 4 → ¬ (x = 0 ∧ j = 0) → m4 x j = m3 x j := fun x j hx h0 => by rw [em4]; exact alp_old (by omega) h0
  have am4 : m4 (o + 4) 3 = 101 ∧ m4 (o + 4) 2 = 12 := by rw [em4]; exact ⟨alp_3 hm3, alp_2 hm3⟩
  obtain ⟨m5, em5⟩ : ∃ z, z = alp m4 ((101 : Nat) : Int) 12 := ⟨_, rfl⟩
  rw [← em5]
  have hm5 : m5 0 0 = o + 6 := by rw [em5]; exact alp_nx hm4 (by omega) (by omega)
  have km5 : ∀ x j : Int, x < o + 5 → ¬ (x = 0 ∧ j = 0) → m5 x j = m4 x j := fun x j hx h0 => by rw [em5]; exact alp_old (by omega) h0
  have am5 : m5 (o + 5) 3 = 101 ∧ m5 (o + 5) 2 = 12 := by rw [em5]; exact ⟨alp_3 hm4, alp_2 hm4⟩
  obtain ⟨m6, em6⟩ : ∃ z, z = alp m5 ((101 : Nat) : Int) 12 := ⟨_, rfl⟩
  rw [← em6]
  have hm6 : m6 0 0 = o + 7 := by rw [em6]; exact alp_nx hm5 (by omega) (by omega)
  have km6 : ∀ x j : Int, x < o + 6 → ¬ (x = 0 ∧ j = 0) → m6 x j = m5 x j := fun x j hx h0 => by rw [em6]; exact alp_old (by omega) h0
  have am6 : m6 (o + 6) 3 = 101 ∧ m6 (o + 6) 2 = 12 := by rw [em6]; exact ⟨alp_3 hm5, alp_2 hm5⟩
  refine ⟨⟨hm, ho, hm6, by omega, fun x j hx h0 => ?_⟩, ⟨by rw [km6 _ _ (by omega) (by omega), km5 _ _ (by omega) (by omega), km4 _ _ (by omega) (by omega), km3 _ _ (by omega) (by omega), km2 _ _ (by omega) (by omega)]; exact am1.1, by rw [km6 _ _ (by omega) (by omega), km5 _ _ (by omega) (by omega), km4 _ _ (by omega) (by omega), km3 _ _ (by omega) (by omega), km2 _ _ (by omega) (by omega)]; exact am1.2⟩, ⟨by rw [km6 _ _ (by omega) (by omega), km5 _ _ (by omega) (by omega), km4 _ _ (by omega) (by omega), km3 _ _ (by omega) (by omega)]; exact am2.1, by rw [km6 _ _ (by omega) (by omega), km5 _ _ (by omega) (by omega), km4 _ _ (by omega) (by omega), km3 _ _ (by omega) (by omega)]; exact am2.2⟩, ⟨by rw [km6 _ _ (by omega) (by omega), km5 _ _ (by omega) (by omega), km4 _ _ (by omega) (by omega)]; exact am3.1, by rw [km6 _ _ (by omega) (by omega), km5 _ _ (by omega) (by omega), km4 _ _ (by omega) (by omega)]; exact am3.2⟩, ⟨by rw [km6 _ _ (by omega) (by omega), km5 _ _ (by omega) (by omega)]; exact am4.1, by rw [km6 _ _ (by omega) (by omega), km5 _ _ (by omega) (by omega)]; exact am4.2⟩, ⟨by rw [km6 _ _ (by omega) (by omega)]; exact am5.1, by rw [km6 _ _ (by omega) (by omega)]; exact am5.2⟩, ⟨am6.1, am6.2⟩, trivial⟩
  rw [km6 x j (by omega) h0, km5 x j (by omega) h0, km4 x j (by omega) h0, km3 x j (by omega) h0, km2 x j (by omega) h0, km1 x j (by omega) h0]
theorem own_X13 {m d : Dt} {o a1 a2 a3 b : Int} (hm : m 0 0 = o + 1) (ho : 0 < o) : ∀ k : Nat, k < k_N 12 → k_of 12 k ≠ 0 → nwX13 o a1 a2 a3 b d o k = o + k_of 12 k ∧ na_X13 m (o + k_of 12 k) 3 = k_tg (k_ty 12 k) ∧ na_X13 m (o + k_of 12 k) 2 = k_ln 12 k ∧ k_es 12 k = 0 := by
  obtain ⟨-, q1, q2, q3, q4, q5, q6, -⟩ := ns_X13 hm ho
  intro k hk hn
  match k, hk, hn with
  | 0, _, h => exact absurd rfl h
  | 1, _, h => exact absurd rfl h
  | 2, _, h => exact absurd rfl h
  | 3, _, h => exact absurd rfl h
  | 4, _, h => exact absurd rfl h
  | 5, _, h => exact absurd rfl h
  | 6, _, _ => exact ⟨by show nwX13 o a1 a2 a3 b d o 6 = o + 1; simp [nwX13, st], q1.1, q1.2, rfl⟩
  | 7, _, _ => exact ⟨by show nwX13 o a1 a2 a3 b d o 7 = o + 2; simp [nwX13, st], q2.1, q2.2, rfl⟩
  | 8, _, h => exact absurd rfl h
  | 9, _, _ => exact ⟨by show nwX13 o a1 a2 a3 b d o 9 = o + 3; simp [nwX13, st], q3.1, q3.2, rfl⟩
  | 10, _, _ => exact ⟨by show nwX13 o a1 a2 a3 b d o 10 = o + 4; simp [nwX13, st], q4.1, q4.2, rfl⟩
  | 11, _, _ => exact ⟨by show nwX13 o a1 a2 a3 b d o 11 = o + 5; simp [nwX13, st], q5.1, q5.2, rfl⟩
  | 12, _, _ => exact ⟨by show nwX13 o a1 a2 a3 b d o 12 = o + 6; simp [nwX13, st], q6.1, q6.2, rfl⟩
  | 13, _, h => exact absurd rfl h
  | k + 14, h, _ => exact absurd (show k + 14 < 14 from h) (by omega)
theorem pb_X13 {w : Wd} {d m : Dt} {x : Int} {c : Nat} (hv : VT w d m) (h : PB m x c) : PB (nt_X13 m) x c := by
  have v1 := hv.1
  have h2 : m x 3 = (c : Int) + 1 := h
  have hx : x < m 0 0 := by
    rcases Int.lt_or_le x (m 0 0) with q | q
    · exact q
    · have h1 := hv.2.2.1 x 3 q
      omega
  have hk := (ns_X13 (m := aln m ((12 : Nat) + 1 : Int) 0) (o := m 0 0) (aln_next v1) (by omega)).1
  unfold PB nt_X13
  rw [st_na (by omega), hk.2.2.2.2 x 3 (by omega) (by omega), aln_old (by omega) (by omega)]
  exact h
def nwX14 (o a1 a2 a3 : Int) (d : Dt) : Dt := (st (st (st (st d o 7 (-1)) o 0 a1) o 1 a2) o 2 a3)
def na_X14 (m : Dt) : Dt := m
def nt_X14 (m : Dt) : Dt := st (na_X14 (aln m ((13 : Nat) + 1 : Int) 0)) (m 0 0) 3 ((13 : Nat) + 1 : Int)
theorem ns_X14 {m : Dt} {o : Int} (hm : m 0 0 = o + 1) (ho : 0 < o) : NK m (na_X14 m) o 1 ∧ True := by
  unfold na_X14
  refine ⟨⟨hm, ho, hm, by omega, fun x j hx h0 => ?_⟩, trivial⟩
  rfl
theorem own_X14 {m d : Dt} {o a1 a2 a3 : Int} (hm : m 0 0 = o + 1) (ho : 0 < o) : ∀ k : Nat, k < k_N 13 → k_of 13 k ≠ 0 → nwX14 o a1 a2 a3 d o k = o + k_of 13 k ∧ na_X14 m (o + k_of 13 k) 3 = k_tg (k_ty 13 k) ∧ na_X14 m (o + k_of 13 k) 2 = k_ln 13 k ∧ k_es 13 k = 0 := by
  obtain ⟨-, -⟩ := ns_X14 hm ho
  intro k hk hn
  match k, hk, hn with
  | 0, _, h => exact absurd rfl h
  | 1, _, h => exact absurd rfl h
  | 2, _, h => exact absurd rfl h
  | 3, _, h => exact absurd rfl h
  | 4, _, h => exact absurd rfl h
  | 5, _, h => exact absurd rfl h
  | 6, _, h => exact absurd rfl h
  | 7, _, h => exact absurd rfl h
  | k + 8, h, _ => exact absurd (show k + 8 < 8 from h) (by omega)
theorem pb_X14 {w : Wd} {d m : Dt} {x : Int} {c : Nat} (hv : VT w d m) (h : PB m x c) : PB (nt_X14 m) x c := by
  have v1 := hv.1
  have h2 : m x 3 = (c : Int) + 1 := h
  have hx : x < m 0 0 := by
    rcases Int.lt_or_le x (m 0 0) with q | q
    · exact q
    · have h1 := hv.2.2.1 x 3 q
      omega
  have hk := (ns_X14 (m := aln m ((13 : Nat) + 1 : Int) 0) (o := m 0 0) (aln_next v1) (by omega)).1
  unfold PB nt_X14
  rw [st_na (by omega), hk.2.2.2.2 x 3 (by omega) (by omega), aln_old (by omega) (by omega)]
  exact h
def nwX15 (o a1 a2 a3 a4 a5 : Int) (d : Dt) : Dt := (st (st (st (st (st (st d o 7 (o + 1)) o 0 a1) o 1 a2) o 2 a3) o 4 a5) o 3 (w32 (a1 + a4)))
def na_X15 (m : Dt) : Dt := (alp m ((102 : Nat) : Int) 54)
def nt_X15 (m : Dt) : Dt := st (na_X15 (aln m ((14 : Nat) + 1 : Int) 0)) (m 0 0) 3 ((14 : Nat) + 1 : Int)
theorem ns_X15 {m : Dt} {o : Int} (hm : m 0 0 = o + 1) (ho : 0 < o) : NK m (na_X15 m) o 2 ∧ (na_X15 m (o + 1) 3 = 102 ∧ na_X15 m (o + 1) 2 = 54) ∧ True := by
  unfold na_X15
  obtain ⟨m1, em1⟩ : ∃ z, z = alp m ((102 : Nat) : Int) 54 := ⟨_, rfl⟩
  rw [← em1]
  have hm1 : m1 0 0 = o + 2 := by rw [em1]; exact alp_nx hm (by omega) (by omega)
  have km1 : ∀ x j : Int, x < o + 1 → ¬ (x = 0 ∧ j = 0) → m1 x j = m x j := fun x j hx h0 => by rw [em1]; exact alp_old (by omega) h0
  have am1 : m1 (o + 1) 3 = 102 ∧ m1 (o + 1) 2 = 54 := by rw [em1]; exact ⟨alp_3 hm, alp_2 hm⟩
  refine ⟨⟨hm, ho, hm1, by omega, fun x j hx h0 => ?_⟩, ⟨am1.1, am1.2⟩, trivial⟩
  rw [km1 x j (by omega) h0]
theorem own_X15 {m d : Dt} {o a1 a2 a3 a4 a5 : Int} (hm : m 0 0 = o + 1) (ho : 0 < o) : ∀ k : Nat, k < k_N 14 → k_of 14 k ≠ 0 → nwX15 o a1 a2 a3 a4 a5 d o k = o + k_of 14 k ∧ na_X15 m (o + k_of 14 k) 3 = k_tg (k_ty 14 k) ∧ na_X15 m (o + k_of 14 k) 2 = k_ln 14 k ∧ k_es 14 k = 0 := by
  obtain ⟨-, q1, -⟩ := ns_X15 hm ho
  intro k hk hn
  match k, hk, hn with
  | 0, _, h => exact absurd rfl h
  | 1, _, h => exact absurd rfl h
  | 2, _, h => exact absurd rfl h
  | 3, _, h => exact absurd rfl h
  | 4, _, h => exact absurd rfl h
  | 5, _, h => exact absurd rfl h
  | 6, _, h => exact absurd rfl h
  | 7, _, _ => exact ⟨by show nwX15 o a1 a2 a3 a4 a5 d o 7 = o + 1; simp [nwX15, st], q1.1, q1.2, rfl⟩
  | k + 8, h, _ => exact absurd (show k + 8 < 8 from h) (by omega)
theorem pb_X15 {w : Wd} {d m : Dt} {x : Int} {c : Nat} (hv : VT w d m) (h : PB m x c) : PB (nt_X15 m) x c := by
  have v1 := hv.1
  have h2 : m x 3 = (c : Int) + 1 := h
  have hx : x < m 0 0 := by
    rcases Int.lt_or_le x (m 0 0) with q | q
    · exact q
    · have h1 := hv.2.2.1 x 3 q
      omega
  have hk := (ns_X15 (m := aln m ((14 : Nat) + 1 : Int) 0) (o := m 0 0) (aln_next v1) (by omega)).1
  unfold PB nt_X15
  rw [st_na (by omega), hk.2.2.2.2 x 3 (by omega) (by omega), aln_old (by omega) (by omega)]
  exact h
