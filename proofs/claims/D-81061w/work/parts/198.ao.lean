/-! the words arrayOver, as the tables move -/
theorem ao_movedA {t : FieldType} {u U : State} (hvm : u.vm.Alike U.vm) (h : (Cond.arrayOver (.array t)).before #[] u = true) : (Cond.arrayOver (.array t)).before #[] U = true := by
  obtain ⟨comp, c, k, h1, h2, h3, h4, h5⟩ := arrayOverA_spec h
  obtain ⟨k', hk', he⟩ := hvm.2.2 _ _ h3
  have hi : (U.vm.classes.findIdx? fun (x : Class) => match x.kind with | .array component _ => component == comp | _ => false) = some c := by
    refine (va_idx_bare U.vm comp).symm.trans ?_
    have e := hvm.bare_eq
    first
      | (rw [e]; exact (va_idx_bare u.vm comp).trans h2)
      | (rw [← e]; exact (va_idx_bare u.vm comp).trans h2)
  have hkind : k'.kind = .array comp (.array t) := by rw [he]; exact h4
  have f1 : U.vm.findClass (FieldType.array t).toString = some comp := by rw [hvm.findClass]; exact h1
  have f2 : U.vm.findClass ("[" ++ (FieldType.array t).toString) = some c := by rw [hvm.findClass]; exact h5
  unfold Cond.before Cond.holds
  simp only [Cond.value]
  rw [f1, Option.bind_some]
  refine (congrArg (fun o : Option Nat => (o.bind (fun c => (U.vm.classes[c]?).map fun (k : Class) => match k.kind with | .array _ ty => decide (ty = FieldType.array t) && decide (U.vm.findClass ("[" ++ (FieldType.array t).toString) = some c) | _ => false) == some true)) hi).trans ?_
  simp [hk', hkind, f2]
def isAO : FieldType → Bool
  | .object _ => true
  | .array _ => true
  | _ => false
theorem ao_moved {t : FieldType} (ht : isAO t = true) {s U : State} (hW : s.WarmedH U.vm) (h : va_Nw (.arrayOver t) s) : va_Nw (.arrayOver t) U := by
  cases t with
  | object C => exact va_AO.moved (C := C) hW.alike h
  | array t => exact ao_movedA hW.alike h
  | _ => cases ht
