/-! LEVEL 1: writing fields while the first objects are made (no word kept but the numbers) -/
def XT : Dt → Dt → Prop := fun _ _ => True
section CT
variable {w : Wd} {l : Launch} {G : Cx} {Q : State → Prop} {d m : Dt} {kc ks pc nL : Nat} {L S : List MV} {cc : ByteArray} {own : String} {rt : Option FieldType} {rm : Room} {idx c k : Nat} {a x kz : Int} {fin : Bool}
theorem cpI (F : Fx w G cc own nL rt rm) (hf : FL own idx c k fin) (hfi : fin = true → G.2.2.2.2.2.2.2.1.name = "<init>") (hd : decode cc pc = .ok (.putfield idx, 3)) (ho : OB m a c) (hz : (k : Int) = kz) (ht : k_ty c k = .int) (kk : V w l XT G Q (st d a kz x) m kc ks (pc + 3) L S) : V w l XT G Q d m kc ks pc L (mI x :: mA a :: S) := by
  subst hz
  exact v_put0 F hf hfi hd ho (x := x) (fun hcn => by rw [ht]; exact ⟨rfl, hcn, rfl, rfl⟩) (fun _ _ => trivial) kk
theorem cpZ (F : Fx w G cc own nL rt rm) (hf : FL own idx c k fin) (hfi : fin = true → G.2.2.2.2.2.2.2.1.name = "<init>") (hd : decode cc pc = .ok (.putfield idx, 3)) (ho : OB m a c) (hz : (k : Int) = kz) (ht : k_ty c k = .boolean) (hb : x = 0 ∨ x = 1) (kk : V w l XT G Q (st d a kz x) m kc ks (pc + 3) L S) : V w l XT G Q d m kc ks pc L (mI x :: mA a :: S) := by
  subst hz
  exact v_put0 F hf hfi hd ho (x := x) (fun hcn => by rw [ht]; exact ⟨rfl, hb, fit_of (ty := .boolean) hb rfl⟩) (fun _ _ => trivial) kk
theorem cpL (F : Fx w G cc own nL rt rm) (hf : FL own idx c k fin) (hfi : fin = true → G.2.2.2.2.2.2.2.1.name = "<init>") (hd : decode cc pc = .ok (.putfield idx, 3)) (ho : OB m a c) (hz : (k : Int) = kz) (ht : k_ty c k = .long) (kk : V w l XT G Q (st d a kz x) m kc ks (pc + 3) L S) : V w l XT G Q d m kc ks pc L (mL x :: mA a :: S) := by
  subst hz
  exact v_put0 F hf hfi hd ho (x := x) (fun hcn => by rw [ht]; exact ⟨rfl, hcn, rfl, rfl⟩) (fun _ _ => trivial) kk
theorem cpA (F : Fx w G cc own nL rt rm) (hf : FL own idx c k fin) (hfi : fin = true → G.2.2.2.2.2.2.2.1.name = "<init>") (hd : decode cc pc = .ok (.putfield idx, 3)) (ho : OB m a c) (hz : (k : Int) = kz) (ht : kA (k_ty c k) = true) (kk : V w l XT G Q (st d a kz x) m kc ks (pc + 3) L S) : V w l XT G Q d m kc ks pc L (mA x :: mA a :: S) := by
  subst hz
  exact v_put0 F hf hfi hd ho (x := x) (fun hcn => ⟨eT_A ht x, cT_A ht x, fitA ht x⟩) (fun _ _ => trivial) kk
end CT
