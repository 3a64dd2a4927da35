/-! LEVEL 1: states as whole numbers. d a k: slot k of the cell a; m a 1: its tag, m a 2: its length, m a 3: its tag once it is made; m 0 0: the next free cell -/
abbrev MV : Type := Int ⊕ Int ⊕ Int ⊕ Unit
abbrev mI (v : Int) : MV := Sum.inl v
abbrev mL (v : Int) : MV := Sum.inr (Sum.inl v)
abbrev mA (v : Int) : MV := Sum.inr (Sum.inr (Sum.inl v))
abbrev mU : MV := Sum.inr (Sum.inr (Sum.inr ()))
abbrev Dt : Type := Int → Int → Int
def st (d : Dt) (a k v : Int) : Dt := fun x y => if x = a ∧ y = k then v else d x y
/-- a world: the heap at the start, addresses of cells that were there, classes, slots, array classes, contents of what was there -/
abbrev Wd : Type := Heap × (Int → Nat) × (Nat → ClassId) × (Nat → Nat → Nat) × (Nat → ClassId) × Dt × Dt
abbrev Cx : Type := Program × Env × Room × State × MethodId × Array Value × List Frame × Method × Code
def fA (w : Wd) (a : Int) : Nat := if 0 < a then w.1.size + (a - 1).toNat else w.2.1 a
def eR (w : Wd) (v : Int) : Value := if v = 0 then .null else .ref (fA w v)
def eV (w : Wd) : MV → Value
  | .inl v => .int (Int32.ofInt v)
  | .inr (.inl v) => .long (Int64.ofInt v)
  | .inr (.inr (.inl v)) => eR w v
  | .inr (.inr (.inr _)) => .null
def eT (w : Wd) (ty : FieldType) (v : Int) : Value := match ty with
  | .long => .long (Int64.ofInt v)
  | .object _ => eR w v
  | .array _ => eR w v
  | _ => .int (Int32.ofInt v)
def in32 (v : Int) : Prop := -2147483648 ≤ v ∧ v ≤ 2147483647
def in64 (v : Int) : Prop := -9223372036854775808 ≤ v ∧ v ≤ 9223372036854775807
def w32 (v : Int) : Int := (v + 2147483648) % 4294967296 - 2147483648
def w64 (v : Int) : Int := (v + 9223372036854775808) % 18446744073709551616 - 9223372036854775808
def w8 (v : Int) : Int := (v + 128) % 256 - 128
def cn : MV → Prop
  | .inl v => in32 v
  | .inr (.inl v) => in64 v
  | _ => True
def cns : List MV → Prop
  | [] => True
  | v :: l => cn v ∧ cns l
/-- a slot of this type may hold this number -/
def cT (ty : FieldType) (v : Int) : Prop := match ty with
  | .byte => -128 ≤ v ∧ v ≤ 127
  | .boolean => v = 0 ∨ v = 1
  | .long => in64 v
  | .object _ => True
  | .array _ => True
  | _ => in32 v
/-- what the tables say, as far as it doesn't ride in the list of words -/
def nestW : Cond → Bool
  | .fieldLinkNest _ _ _ _ _ _ => true
  | .methodLinkNest _ _ _ _ => true
  | .castable _ _ => true
  | .arrayOver t => isAO t
  | _ => false
def k_tys (w : Wd) : List (ClassId × FieldType) := [(w.2.2.2.2.1 101, .int), (w.2.2.2.2.1 102, .byte), (w.2.2.2.2.1 103, .boolean), (w.2.2.2.2.1 104, .long), (w.2.2.2.2.1 105, .array .int), (w.2.2.2.2.1 106, .array .byte), (w.2.2.2.2.1 107, .array .boolean), (w.2.2.2.2.1 108, .array .long), (w.2.2.2.2.1 109, .object "ElectionHouse$Person"), (w.2.2.2.2.1 110, .object "ElectionHouse$Contest"), (w.2.2.2.2.1 111, .object "ElectionHouse$Nomination"), (w.2.2.2.2.1 112, .object "ElectionHouse$Issue"), (w.2.2.2.2.1 113, .object "ElectionHouse$Box"), (w.2.2.2.2.1 114, .object "ElectionHouse$Way"), (w.2.2.2.2.1 115, .object "java/lang/String")]
/-- what was there: texts, the two static arrays, a static of String -/
def XW (w : Wd) (U : State) : Prop :=
  (∀ a : Int, isS a → va_O "java/lang/String" (w.2.1 a) (fun q => w.1.size ≤ q) U w.1 ∧ va_OF "java/lang/String" "coder" "B" (.int 0) (w.2.1 a) (fun q => w.1.size ≤ q) U w.1 ∧ va_OF "java/lang/String" "value" "[B" (.ref (w.2.1 (a - 1))) (w.2.1 a) (fun q => w.1.size ≤ q) U w.1 ∧ va_T .byte (w.2.1 (a - 1)) (sLen a).toNat (fun j => .int (Int32.ofInt (sAt a j))) (fun q => w.1.size ≤ q) U w.1) ∧
  va_T .int (w.2.1 (-2)) 64 (fun j => .int (Int32.ofInt (xK.getD j 0))) (fun q => w.1.size ≤ q) U w.1 ∧ va_T .int (w.2.1 (-3)) 8 (fun j => .int (Int32.ofInt (xB.getD j 0))) (fun q => w.1.size ≤ q) U w.1 ∧
  va_Z "ElectionHouse$Digests" "K" "[I" (.ref (w.2.1 (-2))) (fun q => w.1.size ≤ q) U w.1 ∧ va_Z "ElectionHouse$Digests" "BEGIN" "[I" (.ref (w.2.1 (-3))) (fun q => w.1.size ≤ q) U w.1 ∧
  va_Z "java/lang/String" "COMPACT_STRINGS" "Z" (.int 1) (fun q => w.1.size ≤ q) U w.1 ∧
  ((∀ q ∈ sTab, vk_R q.1 q.2.1 q.2.2.1 (w.2.1 q.2.2.2) U) ∧ ∀ x k : Int, w.2.2.2.2.2.1 x 3 = 120 → isS x) ∧
  (∃ v : Int, va_Z "jdk/internal/util/Preconditions" "SIOOBE_FORMATTER" "Ljava/util/function/BiFunction;" (eR w v) (fun q => w.1.size ≤ q) U w.1) ∧
  (∃ v : Int, va_Z "java/lang/Throwable" "UNASSIGNED_STACK" "[Ljava/lang/StackTraceElement;" (eR w v) (fun q => w.1.size ≤ q) U w.1) ∧
  (∃ v : Int, va_Z "java/lang/Throwable" "SUPPRESSED_SENTINEL" "Ljava/util/List;" (eR w v) (fun q => w.1.size ≤ q) U w.1)
theorem XW.moved {w : Wd} {s U : State} (hW : s.WarmedH U.vm) (h : XW w s) : XW w U :=
  ⟨fun a ha => ⟨va_O.moved hW.alike (h.1 a ha).1, va_OF.moved hW.alike (h.1 a ha).2.1, va_OF.moved hW.alike (h.1 a ha).2.2.1, va_T.moved hW.alike (h.1 a ha).2.2.2⟩, va_T.moved hW.alike h.2.1, va_T.moved hW.alike h.2.2.1, va_Z.moved hW.alike h.2.2.2.1, va_Z.moved hW.alike h.2.2.2.2.1, va_Z.moved hW.alike h.2.2.2.2.2.1, ⟨fun q hq => vk_R.warm hW (h.2.2.2.2.2.2.1.1 q hq), h.2.2.2.2.2.2.1.2⟩, h.2.2.2.2.2.2.2.1.imp fun _ => va_Z.moved hW.alike, h.2.2.2.2.2.2.2.2.1.imp fun _ => va_Z.moved hW.alike, h.2.2.2.2.2.2.2.2.2.imp fun _ => va_Z.moved hW.alike⟩
def KU (w : Wd) (U : State) : Prop := va_K (w.2.2.1, w.2.2.2.1) k_cl (k_tys w) U ∧ (∀ q ∈ lw_tbl.filter nestW, va_Nw q U) ∧ XW w U
theorem KU.moved {w : Wd} {s U : State} (hW : s.WarmedH U.vm) (h : KU w s) : KU w U := by
  refine ⟨va_K.moved hW.alike h.1, fun q hq => ?_, h.2.2.moved hW⟩
  have h1 := h.2.1 q hq
  have h2 := (List.mem_filter.mp hq).2
  cases q <;> first | exact va_Nw.warmF hW h1 | exact va_Nw.warmM hW h1 | exact va_Nw.warmC hW h1 | exact ao_moved h2 hW h1 | (simp [nestW] at h2)
/-- the cell a as the heap has it -/
def CR (w : Wd) (d m : Dt) (a : Int) (H : Heap) : Prop :=
  (∀ c : Nat, m a 1 = (c : Int) + 1 → c < 20 → t_OB (fA w a) (w.2.2.1 c) (k_N c) (w.2.2.2.1 c) H (fun k => eT w (k_ty c k) (d a k))) ∧
  (∀ t : Nat, m a 1 = (t : Int) → 100 < t → H[fA w a]? = some (arrV (w.2.2.2.2.1 t) (m a 2).toNat (fun j => eT w (k_el t) (d a j))))
def RH (w : Wd) (d m : Dt) (H : Heap) : Prop := H.size = w.1.size + (m 0 0 - 1).toNat ∧ (∀ q : Nat, q < w.1.size → H[q]? = w.1[q]?) ∧ ∀ a : Int, 0 < a → a < m 0 0 → CR w d m a H
/-- numbers are within the ranges of their types; what is free is blank; what was there is as it was -/
def VT (w : Wd) (d m : Dt) : Prop := 1 ≤ m 0 0 ∧ (∀ a k, m 0 0 ≤ a → d a k = 0) ∧ (∀ a j, m 0 0 ≤ a → m a j = 0) ∧ (m 0 1 = 0 ∧ m 0 3 = 0) ∧
  (∀ a k, a < 0 → m a k = w.2.2.2.2.2.1 a k ∧ d a k = w.2.2.2.2.2.2 a k) ∧
  (∀ a : Int, 0 < a → (∀ c : Nat, m a 1 = (c : Int) + 1 → c < 20 → ∀ k : Nat, k < k_N c → cT (k_ty c k) (d a k)) ∧
    (∀ t : Nat, m a 1 = (t : Int) → 100 < t → t < 120 ∧ 0 ≤ m a 2 ∧ m a 2 ≤ 100000 ∧ ∀ i : Int, 0 ≤ i → i < m a 2 → cT (k_el t) (d a i)))
def LR (w : Wd) (lsR : Array Slot) (nL : Nat) (L : List MV) : Prop := lsR.size = nL ∧ lv_wf lsR ∧ L.length = nL ∧ ∀ (i : Nat) (v : MV), L[i]? = some v → v ≠ mU → lsR[i]? = some (.val (eV w v))
/-- the machine, from the state that these numbers name, comes to Q -/
def V (w : Wd) (l : Launch) (X : Dt → Dt → Prop) (G : Cx) (Q : State → Prop) (d m : Dt) (kc ks : Nat) (pc : Nat) (L S : List MV) : Prop :=
  VT w d m → X d m → cns L → cns S → ∀ (H : Heap) (locs : List Loc) (lsR : Array Slot), RH w d m H → (∀ q ∈ locs, w.1.size ≤ q.base) → LR w lsR G.2.2.2.2.2.2.2.2.maxLocals L →
    W G.1 l G.2.1 G.2.2.1 G.2.2.2.1 G.2.2.2.2.1 G.2.2.2.2.2.1 G.2.2.2.2.2.2.1 G.2.2.2.2.2.2.2.1 G.2.2.2.2.2.2.2.2 H locs kc ks Q (F0 G.2.2.2.2.1 pc lsR (S.map (eV w)))
/-- the frame of a method's walk: its code, its class, its tables -/
def Fx (w : Wd) (G : Cx) (cc : ByteArray) (own : String) (nL : Nat) (rt : Option FieldType) (rm : Room) : Prop :=
  G.1.tables.exec = Jvm.exec ∧ G.2.2.2.2.2.2.2.2.code = cc ∧ G.2.2.2.2.2.2.2.2.maxLocals = nL ∧ G.2.2.2.1.vm.findClass own = some G.2.2.2.2.1.cls ∧ (∀ q ∈ lw_all, q.before G.2.2.2.2.2.1 G.2.2.2.1 = true) ∧ KU w G.2.2.2.1 ∧
  G.2.2.2.2.2.2.2.1.sig.returnType = rt ∧ G.2.2.2.2.2.2.2.1.locks = false ∧ G.2.2.1 = rm
/-! numbers -/
theorem i32_w (v : Int) : Int32.ofInt (w32 v) = Int32.ofInt v := by
  apply Int32.toInt.inj
  rw [Int32.toInt_ofInt, Int32.toInt_ofInt]
  unfold w32
  simp only [Int.bmod, Int32.size]
  split <;> split <;> omega
theorem i64_w (v : Int) : Int64.ofInt (w64 v) = Int64.ofInt v := by
  apply Int64.toInt.inj
  rw [Int64.toInt_ofInt, Int64.toInt_ofInt]
  unfold w64
  simp only [Int.bmod, Int64.size]
  split <;> split <;> omega
theorem in32_w (v : Int) : in32 (w32 v) := by unfold in32 w32; omega
theorem in64_w (v : Int) : in64 (w64 v) := by unfold in64 w64; omega
theorem w32_id {v : Int} (h : in32 v) : w32 v = v := by unfold in32 at h; unfold w32; omega
theorem w64_id {v : Int} (h : in64 v) : w64 v = v := by unfold in64 at h; unfold w64; omega
theorem i32_to {v : Int} (h : in32 v) : (Int32.ofInt v).toInt = v := by
  unfold in32 at h
  exact Int32.toInt_ofInt_of_le (by omega) (by omega)
theorem i64_to {v : Int} (h : in64 v) : (Int64.ofInt v).toInt = v := by
  unfold in64 at h
  exact Int64.toInt_ofInt_of_le (by omega) (by omega)
theorem in32_to (x : Int32) : in32 x.toInt := by
  have h1 := x.le_toInt
  have h2 := x.toInt_lt
  unfold in32; omega
theorem in64_to (x : Int64) : in64 x.toInt := by
  have h1 := x.le_toInt
  have h2 := x.toInt_lt
  unfold in64; omega
theorem i32_of (x : Int32) : Int32.ofInt x.toInt = x := Int32.ofInt_toInt x
theorem i64_of (x : Int64) : Int64.ofInt x.toInt = x := Int64.ofInt_toInt x
theorem i32_lt {a b : Int} (ha : in32 a) (hb : in32 b) : Int32.ofInt a < Int32.ofInt b ↔ a < b := by rw [Int32.lt_iff_toInt_lt, i32_to ha, i32_to hb]
theorem i32_le {a b : Int} (ha : in32 a) (hb : in32 b) : Int32.ofInt a ≤ Int32.ofInt b ↔ a ≤ b := by rw [Int32.le_iff_toInt_le, i32_to ha, i32_to hb]
theorem i32_eq {a b : Int} (ha : in32 a) (hb : in32 b) : Int32.ofInt a = Int32.ofInt b ↔ a = b := ⟨fun h => by rw [← i32_to ha, h, i32_to hb], fun h => by rw [h]⟩
theorem i64_lt {a b : Int} (ha : in64 a) (hb : in64 b) : Int64.ofInt a < Int64.ofInt b ↔ a < b := by rw [Int64.lt_iff_toInt_lt, i64_to ha, i64_to hb]
theorem i64_eq {a b : Int} (ha : in64 a) (hb : in64 b) : Int64.ofInt a = Int64.ofInt b ↔ a = b := ⟨fun h => by rw [← i64_to ha, h, i64_to hb], fun h => by rw [h]⟩
theorem in32_0 : in32 0 := by unfold in32; omega
theorem i32_add (a b : Int) : Int32.ofInt a + Int32.ofInt b = Int32.ofInt (w32 (a + b)) := by rw [i32_w, Int32.ofInt_add]
theorem i32_sub (a b : Int) : Int32.ofInt a - Int32.ofInt b = Int32.ofInt (w32 (a - b)) := by rw [i32_w, Int32.ofInt_sub]
theorem i32_mul (a b : Int) : Int32.ofInt a * Int32.ofInt b = Int32.ofInt (w32 (a * b)) := by rw [i32_w, Int32.ofInt_mul]
theorem i32_neg (a : Int) : -Int32.ofInt a = Int32.ofInt (w32 (-a)) := by rw [i32_w, Int32.ofInt_neg]
theorem i64_add (a b : Int) : Int64.ofInt a + Int64.ofInt b = Int64.ofInt (w64 (a + b)) := by rw [i64_w, Int64.ofInt_add]
theorem i64_sub (a b : Int) : Int64.ofInt a - Int64.ofInt b = Int64.ofInt (w64 (a - b)) := by rw [i64_w, Int64.ofInt_sub]
theorem i64_mul (a b : Int) : Int64.ofInt a * Int64.ofInt b = Int64.ofInt (w64 (a * b)) := by rw [i64_w, Int64.ofInt_mul]
theorem i64_neg (a : Int) : -Int64.ofInt a = Int64.ofInt (w64 (-a)) := by rw [i64_w, Int64.ofInt_neg]
theorem i32_div {a b : Int} (ha : in32 a) (hb : in32 b) : Int32.ofInt a / Int32.ofInt b = Int32.ofInt (w32 (a.tdiv b)) := by
  apply Int32.toInt.inj
  rw [Int32.toInt_div, i32_to ha, i32_to hb, i32_w, Int32.toInt_ofInt]
theorem i64_div {a b : Int} (ha : in64 a) (hb : in64 b) : Int64.ofInt a / Int64.ofInt b = Int64.ofInt (w64 (a.tdiv b)) := by
  apply Int64.toInt.inj
  rw [Int64.toInt_div, i64_to ha, i64_to hb, i64_w, Int64.toInt_ofInt]
theorem tmod_in {a b lo hi : Int} (h0 : lo ≤ 0) (h1 : 0 ≤ hi) (ha : lo ≤ a ∧ a ≤ hi) : lo ≤ a.tmod b ∧ a.tmod b ≤ hi := by
  have g : (a.tmod b).natAbs ≤ a.natAbs := by
    rw [Int.natAbs_tmod]
    exact Nat.mod_le _ _
  rcases Int.le_total 0 a with h | h
  · have g1 := Int.tmod_nonneg b h
    omega
  · have g1 : (-a).tmod b = -(a.tmod b) := Int.neg_tmod a b
    have g2 := Int.tmod_nonneg b (show 0 ≤ -a by omega)
    omega
theorem i32_rem {a b : Int} (ha : in32 a) (hb : in32 b) : Int32.ofInt a - Int32.ofInt a / Int32.ofInt b * Int32.ofInt b = Int32.ofInt (a.tmod b) := by
  rw [i32_div ha hb, i32_w, ← Int32.ofInt_mul, ← Int32.ofInt_sub]
  congr 1
  have := Int.tmod_add_mul_tdiv a b
  rw [Int.mul_comm] at this
  omega
theorem i64_rem {a b : Int} (ha : in64 a) (hb : in64 b) : Int64.ofInt a - Int64.ofInt a / Int64.ofInt b * Int64.ofInt b = Int64.ofInt (a.tmod b) := by
  rw [i64_div ha hb, i64_w, ← Int64.ofInt_mul, ← Int64.ofInt_sub]
  congr 1
  have := Int.tmod_add_mul_tdiv a b
  rw [Int.mul_comm] at this
  omega
theorem in32_rem {a b : Int} (ha : in32 a) : in32 (a.tmod b) := tmod_in (by omega) (by omega) ha
theorem in64_rem {a b : Int} (ha : in64 a) : in64 (a.tmod b) := tmod_in (by omega) (by omega) ha
/-! bits: by the machine's own numbers -/
def bAnd (a b : Int) : Int := (Int32.ofInt a &&& Int32.ofInt b).toInt
def bOr (a b : Int) : Int := (Int32.ofInt a ||| Int32.ofInt b).toInt
def bXor (a b : Int) : Int := (Int32.ofInt a ^^^ Int32.ofInt b).toInt
def bShl (a b : Int) : Int := (Int32.ofInt a <<< (Int32.ofInt b &&& 31)).toInt
def bShr (a b : Int) : Int := (Int32.ofInt a >>> (Int32.ofInt b &&& 31)).toInt
def bUshr (a b : Int) : Int := ((Int32.ofInt a).toUInt32 >>> ((Int32.ofInt b).toUInt32 &&& Int32.toUInt32 31)).toInt32.toInt
def jAnd (a b : Int) : Int := (Int64.ofInt a &&& Int64.ofInt b).toInt
def jOr (a b : Int) : Int := (Int64.ofInt a ||| Int64.ofInt b).toInt
def jXor (a b : Int) : Int := (Int64.ofInt a ^^^ Int64.ofInt b).toInt
def jShl (a b : Int) : Int := (Int64.ofInt a <<< ((Int32.ofInt b).toInt64 &&& 63)).toInt
def jShr (a b : Int) : Int := (Int64.ofInt a >>> ((Int32.ofInt b).toInt64 &&& 63)).toInt
def jUshr (a b : Int) : Int := ((Int64.ofInt a).toUInt64 >>> ((Int32.ofInt b).toInt64.toUInt64 &&& Int64.toUInt64 63)).toInt64.toInt
def jCmp (a b : Int) : Int := if b < a then 1 else if a = b then 0 else -1
def i2c_ (a : Int) : Int := ((Int32.ofInt a).toUInt32 % 65536).toInt32.toInt
theorem i32_l2i {a : Int} : (Int64.ofInt a).toInt32 = Int32.ofInt (w32 a) := by
  rw [i32_w]
  apply Int32.toInt.inj
  rw [Int64.toInt_toInt32, Int64.toInt_ofInt, Int32.toInt_ofInt]
  simp only [Int.bmod, Int32.size, Int64.size]
  split <;> split <;> split <;> omega
theorem i64_i2l {a : Int} (ha : in32 a) : (Int32.ofInt a).toInt64 = Int64.ofInt a := by
  apply Int64.toInt.inj
  have h : in64 a := by unfold in32 at ha; unfold in64; omega
  rw [Int32.toInt_toInt64, i32_to ha, i64_to h]
theorem i8_i2b {a : Int} (ha : in32 a) : (Int32.ofInt a).toInt8.toInt32 = Int32.ofInt (w8 a) := by
  apply Int32.toInt.inj
  have h8 : in32 (w8 a) := by unfold in32 w8; omega
  rw [Int8.toInt_toInt32, Int32.toInt_toInt8, i32_to ha, i32_to h8]
  unfold w8
  simp only [Int.bmod]
  split <;> omega
theorem jcmp_ok {a b : Int} (ha : in64 a) (hb : in64 b) : lg_cmp (Int64.ofInt a) (Int64.ofInt b) = Int32.ofInt (jCmp a b) := by
  unfold lg_cmp jCmp
  simp only [gt_iff_lt, i64_lt hb ha, i64_eq ha hb]
  split
  · rfl
  · split <;> rfl
theorem in32_jcmp (a b : Int) : in32 (jCmp a b) := by
  unfold jCmp in32
  split
  · omega
  · split <;> omega
