/-! the start: the classes -/
set_option maxRecDepth 100000
theorem zArrP {s : State} {args : Array Value} {ty : FieldType} (hp : match ty with | .object _ => False | _ => True) (h : (Cond.arrayClass ty).before args s = true) : ∃ cA : ClassId, ArrOfT s cA ty ∧ va_RA s cA ty := by
  obtain ⟨c, k, comp, h1, h2, h3⟩ := Cond.arrayClass_spec h
  refine ⟨c, fun N z => ⟨(fun q hq => by cases hq), k, h2, comp, h3⟩, ?_⟩
  cases ty <;> first | exact h1 | exact hp.elim
theorem zArrO {s : State} {args : Array Value} {C : String} (h : (Cond.arrayOver (.object C)).before args s = true) : ∃ cA : ClassId, ArrOfT s cA (.object C) ∧ va_RA s cA (.object C) := by
  obtain ⟨comp, c, k, h1, h2, h3, h4, h5⟩ := Cond.arrayOver_spec h
  exact ⟨c, fun N z => ⟨(fun q hq => by cases hq), k, h3, comp, h4⟩, k, comp, h3, h4, h1, h5⟩
theorem zArrA {s : State} {args : Array Value} {t : FieldType} (h : (Cond.arrayOver (.array t)).before args s = true) : ∃ cA : ClassId, ArrOfT s cA (.array t) ∧ va_RA s cA (.array t) := by
  obtain ⟨comp, c, k, h1, h2, h3, h4, h5⟩ := zAOf_specA (t := t) (s := s) (show (Cond.arrayOver (.array t)).before #[] s = true from h)
  exact ⟨c, fun N z => ⟨(fun q hq => by cases hq), k, h3, comp, h4⟩, h5⟩
