/-! BASE 2: what holds of the tables and of the old cells all through a run; a frame's context; the judgement zG. -/
set_option maxRecDepth 100000
def zAOf (t : FieldType) (U : State) : Prop := (Cond.arrayOver t).before #[] U = true
theorem zAOf_specA {s : State} {t : FieldType} (h : zAOf (.array t) s) :
    ∃ comp c k, s.vm.findClass (FieldType.array t).toString = some comp ∧ (s.vm.classes.findIdx? fun (x : Class) => match x.kind with | .array component _ => component == comp | _ => false) = some c ∧ s.vm.classes[c]? = some k ∧ k.kind = .array comp (.array t) ∧ s.vm.findClass ("[" ++ (FieldType.array t).toString) = some c := by
  unfold zAOf Cond.before at h
  simp only [Cond.holds, Cond.value, beq_iff_eq] at h
  cases hc : s.vm.findClass (FieldType.array t).toString with
  | none => simp [hc] at h
  | some comp =>
    simp only [hc, Option.bind_some, Option.bind_eq_some_iff, Option.map_eq_some_iff] at h
    obtain ⟨c, hi, k, hk, hb⟩ := h
    obtain ⟨hlt, hp, -⟩ := Array.findIdx?_eq_some_iff_getElem.mp hi
    have hkk : s.vm.classes[c] = k := (Array.getElem?_eq_some_iff.mp hk).2
    rw [hkk] at hp
    cases hkind : k.kind with
    | array component ty =>
      rw [hkind] at hb hp
      simp at hb hp
      exact ⟨comp, c, k, rfl, hi, hk, by rw [hkind, hp, hb.1], hb.2⟩
    | _ => rw [hkind] at hb; simp at hb
theorem zAOf.movedA {t : FieldType} {u U : State} (hvm : u.vm.Alike U.vm) (h : zAOf (.array t) u) : zAOf (.array t) U := by
  obtain ⟨comp, c, k, h1, h2, h3, h4, h5⟩ := zAOf_specA h
  obtain ⟨k', hk', he⟩ := hvm.2.2 _ _ h3
  have hi : (U.vm.classes.findIdx? fun (x : Class) => match x.kind with | .array component _ => component == comp | _ => false) = some c := by
    have hb : U.vm.bare = u.vm.bare := by first | exact hvm.bare_eq | exact hvm.bare_eq.symm
    refine (va_idx_bare U.vm comp).symm.trans ?_
    rw [hb]
    exact (va_idx_bare u.vm comp).trans h2
  have hkind : k'.kind = .array comp (.array t) := by rw [he]; exact h4
  have f1 : U.vm.findClass (FieldType.array t).toString = some comp := by rw [hvm.findClass]; exact h1
  have f2 : U.vm.findClass ("[" ++ (FieldType.array t).toString) = some c := by rw [hvm.findClass]; exact h5
  unfold zAOf Cond.before Cond.holds
  simp only [Cond.value]
  rw [f1, Option.bind_some]
  refine (congrArg (fun o : Option Nat => (o.bind (fun c => (U.vm.classes[c]?).map fun (k : Class) => match k.kind with | .array _ ty => decide (ty = FieldType.array t) && decide (U.vm.findClass ("[" ++ (FieldType.array t).toString) = some c) | _ => false) == some true)) hi).trans ?_
  simp [hk', hkind, f2]
theorem zAOf.moved {t : FieldType} {u U : State} (hvm : u.vm.Alike U.vm) (h : zAOf t u) : zAOf t U := by
  cases t with
  | object C => exact va_AO.moved hvm h
  | array t => exact zAOf.movedA hvm h
  | _ => unfold zAOf Cond.before at h; simp [Cond.holds, Cond.value] at h
theorem zAOf.same {t : FieldType} {u U : State} (hv : u.vm = U.vm) (h : zAOf t u) : zAOf t U := zAOf.moved (hv ▸ Vm.Alike.refl _) h
theorem zAOf.use {t : FieldType} {A : Array Value} {U : State} (h : zAOf t U) : (Cond.arrayOver t).before A U = true := h
/-- the receivers of Sum.of, Asked.is: class, named method, its own -/
def zySum : MethodName := ⟨"QuiverKin$Sum", "of", "([I)J"⟩
def zyAsk : MethodName := ⟨"QuiverKin$Asked", "is", "([I)Z"⟩
def zFw : List (String × MethodName × MethodName) := [(RX6, zySum, yX6_of), (RX7, zySum, yX7_of), (RX11, zySum, yX11_of), (RX12, zySum, yX12_of), (RX13, zySum, yX13_of), (RX14, zySum, yX14_of), (RX15, zySum, yX15_of), (RX8, zyAsk, yX8_is), (RX9, zyAsk, yX9_is), (RX10, zyAsk, yX10_is)]
theorem zFw_no : ∀ q ∈ zFw, q.2.1.cls ≠ "java/lang/invoke/MethodHandle" ∧ q.2.1.cls ≠ "java/lang/invoke/VarHandle" := by
  intro q h
  simp only [zFw, List.mem_cons, List.not_mem_nil, or_false] at h
  rcases h with e | e | e | e | e | e | e | e | e | e <;> subst e <;> exact ⟨by decide, by decide⟩
/-- words of the tables that don't ride in the lists -/
def zNest (U : State) : Prop :=
  (∀ (a : String) (i : Nat) (b n d h : String), Cond.fieldLinkNest a i b n d h ∈ lw_tbl → va_Nw (.fieldLinkNest a i b n d h) U) ∧
  (∀ (a : String) (i : Nat) (x : MethodName) (h : String), Cond.methodLinkNest a i x h ∈ lw_tbl → va_Nw (.methodLinkNest a i x h) U) ∧
  (∀ (C T : String), Cond.castable C T ∈ lw_tbl → va_Nw (.castable C T) U) ∧
  (∀ x : MethodName, Cond.declares x ∈ lw_tbl → va_Nw (.declares x) U) ∧
  (∀ t : FieldType, Cond.arrayOver t ∈ lw_tbl → zAOf t U) ∧
  ∀ q ∈ zFw, va_Fw q.1 q.2.1 q.2.2 U
theorem zNest.warm {s U : State} (hW : s.WarmedH U.vm) (h : zNest s) : zNest U :=
  ⟨fun a i b n d h' m => (h.1 a i b n d h' m).warmF hW, fun a i x h' m => (h.2.1 a i x h' m).warmM hW, fun C T m => (h.2.2.1 C T m).warmC hW, fun x m => (h.2.2.2.1 x m).warmD hW, fun t m => (h.2.2.2.2.1 t m).moved hW.alike, fun q m => (h.2.2.2.2.2 q m).moved (zFw_no q m) hW.alike⟩
theorem zNest.same {s U : State} (hv : s.vm = U.vm) (h : zNest s) : zNest U :=
  ⟨fun a i b n d h' m => va_Nw.same rfl hv (h.1 a i b n d h' m), fun a i x h' m => va_Nw.same rfl hv (h.2.1 a i x h' m), fun C T m => va_Nw.same rfl hv (h.2.2.1 C T m), fun x m => va_Nw.same rfl hv (h.2.2.2.1 x m), fun t m => (h.2.2.2.2.1 t m).same hv, fun q m => (h.2.2.2.2.2 q m).moved (zFw_no q m) (hv ▸ Vm.Alike.refl _)⟩
/-- the statics that hold a reference, by their numbers; those that hold an int -/
def zZs : List (Nat × String × String × String) := [(0, "QuiverKin", "NOTHING", "LQuiverKin$Text;"), (1, "QuiverKin$Tokens", "WORDS", "[Ljava/lang/String;"), (2, "QuiverKin$Tokens", "NAMED", "[I"), (3, "java/util/ArrayList", "DEFAULTCAPACITY_EMPTY_ELEMENTDATA", "[Ljava/lang/Object;"), (4, "java/lang/Integer$IntegerCache", "cache", "[Ljava/lang/Integer;"), (5, "jdk/internal/util/Preconditions", "SIOOBE_FORMATTER", "Ljava/util/function/BiFunction;")]
def zZi : List (Int32 × String × String × String) := [(127, "java/lang/Integer$IntegerCache", "high", "I"), (1, "java/lang/String", "COMPACT_STRINGS", "Z")]
/-- the text constants, by their numbers -/
def zStr : List (Nat × String × Nat × String) := [(10, "QuiverKin$Tokens", 53, "<>=#+-*/();")]
def zStF (D : zDc) (U : State) : Prop := (∀ k : Nat, k < 2 → ∃ (cf : ClassId) (kf : Class) (fi : Nat) (f : Field), U.fieldFound? (zTS k).1 (zTS k).2.1 (zTS k).2.2.1 = some (cf, kf, fi, f) ∧ f.isStatic = false ∧ f.slot = D.1.2 18 k) ∧ ArrOfT U (D.2 8) (.object "java/lang/String") ∧ ArrOfT U (D.2 9) (.object "java/lang/Integer")
theorem zStF.moved {D : zDc} {u U : State} (hvm : u.vm.Alike U.vm) (h : zStF D u) : zStF D U := by
  refine ⟨fun k hk => ?_, arrOfT_moved hvm h.2.1, arrOfT_moved hvm h.2.2⟩
  obtain ⟨cf, kf, fi, f, h1, h2, h3⟩ := h.1 k hk
  obtain ⟨k', hi', -⟩ := State.fieldFound?_setVm hvm h1
  exact ⟨cf, k', fi, f, hi', h2, h3⟩
def zTN : String := "java/lang/Throwable"
def zEnv (D : zDc) (b : Nat) (st : Nat → Option Nat) (U : State) (H : Heap) : Prop :=
  va_K D.1 zCl (zTys D.2) U ∧ zNest U ∧ zStF D U ∧
  (∀ q ∈ zZs, va_Z q.2.1 q.2.2.1 q.2.2.2 (va_rf (st q.1)) (fun a => b ≤ a) U H) ∧
  (∀ q ∈ zZi, va_Z q.2.1 q.2.2.1 q.2.2.2 (.int q.1) (fun a => b ≤ a) U H) ∧
  (∀ q ∈ zStr, ∃ a : Nat, st q.1 = some a ∧ vk_R q.2.1 q.2.2.1 q.2.2.2 a U) ∧
  (∃ mi : Nat, st 20 = some mi ∧ va_Mi "[Ljava/lang/Object;" mi U) ∧
  vx_Zq zTN "UNASSIGNED_STACK" Bundle.steD (fun a => b ≤ a) U H ∧ vx_Zq zTN "SUPPRESSED_SENTINEL" Bundle.listD (fun a => b ≤ a) U H
theorem zEnv.warm {D : zDc} {b : Nat} {st : Nat → Option Nat} {s U : State} {H : Heap} (hW : s.WarmedH U.vm) (h : zEnv D b st s H) : zEnv D b st U H := by
  obtain ⟨h1, h2, h3, h4, h5, h6, ⟨mi, h7, h8⟩, h9, h10⟩ := h
  exact ⟨va_K.moved hW.alike h1, h2.warm hW, h3.moved hW.alike, fun q m => (h4 q m).moved hW.alike, fun q m => (h5 q m).moved hW.alike, fun q m => by
    obtain ⟨a, e, r⟩ := h6 q m
    exact ⟨a, e, r.warm hW⟩, ⟨mi, h7, h8.moved hW.alike⟩, h9.moved hW.alike, h10.moved hW.alike⟩
theorem zEnv.same {D : zDc} {b : Nat} {st : Nat → Option Nat} {s U : State} {H : Heap} (hv : s.vm = U.vm) (h : zEnv D b st s H) : zEnv D b st U H := by
  have hA : s.vm.Alike U.vm := hv ▸ Vm.Alike.refl _
  obtain ⟨h1, h2, h3, h4, h5, h6, ⟨mi, h7, h8⟩, h9, h10⟩ := h
  exact ⟨va_K.moved hA h1, h2.same hv, h3.moved hA, fun q m => (h4 q m).moved hA, fun q m => (h5 q m).moved hA, fun q m => by
    obtain ⟨a, e, r⟩ := h6 q m
    exact ⟨a, e, r.same hv.symm⟩, ⟨mi, h7, h8.moved hA⟩, h9.moved hA, h10.moved hA⟩
theorem zEnv.kept {D : zDc} {b : Nat} {st : Nat → Option Nat} {U : State} {H H1 : Heap} (h : zEnv D b st U H) (hq : ∀ a : Nat, a < H.size → ¬ b ≤ a → H1[a]? = H[a]?) : zEnv D b st U H1 := by
  obtain ⟨h1, h2, h3, h4, h5, h6, h7, h9, h10⟩ := h
  exact ⟨h1, h2, h3, fun q m => (h4 q m).kept hq, fun q m => (h5 q m).kept hq, h6, h7, h9.kept hq, h10.kept hq⟩
/-! a frame's context: program, launch, environment, room, entry state; method, arguments, frames below, method, code; what is to be reached; classes; the world at entry, the world's g at the end -/
abbrev zRs : Type := Option Value ⊕ Nat
abbrev zCx : Type := (Program × Launch × Env × Room × State) × (MethodId × Array Value × List Frame × Method × Code) × (State → Prop) × zDc × zGd × zGd × Option FieldType × zRs × zMm
abbrev xP (X : zCx) : Program := X.1.1
abbrev xl (X : zCx) : Launch := X.1.2.1
abbrev xe (X : zCx) : Env := X.1.2.2.1
abbrev xR (X : zCx) : Room := X.1.2.2.2.1
abbrev xs (X : zCx) : State := X.1.2.2.2.2
abbrev xm (X : zCx) : MethodId := X.2.1.1
abbrev xa (X : zCx) : Array Value := X.2.1.2.1
abbrev xb (X : zCx) : List Frame := X.2.1.2.2.1
abbrev xM (X : zCx) : Method := X.2.1.2.2.2.1
abbrev xC (X : zCx) : Code := X.2.1.2.2.2.2
abbrev xQ (X : zCx) : State → Prop := X.2.2.1
abbrev xD (X : zCx) : zDc := X.2.2.2.1
abbrev xg (X : zCx) : zGd := X.2.2.2.2.1
abbrev xf (X : zCx) : zGd := X.2.2.2.2.2.1
abbrev xt (X : zCx) : Option FieldType := X.2.2.2.2.2.2.1
abbrev xr (X : zCx) : zRs := X.2.2.2.2.2.2.2.1
abbrev xn (X : zCx) : zMm := X.2.2.2.2.2.2.2.2
abbrev xA (X : zCx) : Nat → Prop := fun q => zB (xg X) ≤ q
abbrev zW (X : zCx) (H : Heap) (locs : List Loc) (cells slots : Nat) (gg : JFrame) : Prop := W (xP X) (xl X) (xe X) (xR X) (xs X) (xm X) (xa X) (xb X) (xM X) (xC X) H locs cells slots (xQ X) gg
/-- where the frame stands: the world in the heap, what was written, what was made -/
def zRn (X : zCx) (g : zGd) (m : zMm) (H : Heap) (locs : List Loc) (cells slots : Nat) : Prop :=
  zH (xD X) g m H ∧ va_S (xA X) (xs X).heap H locs ∧ zZ (xg X) + cells = zZ g ∧ zL (xg X) + slots = zL g ∧ zLe (xg X) g
/-- a method's end: it returns r, or throws q, and the world is (g, m) -/
def zQc (D : zDc) (r : Option Value) (g : zGd) (m : zMm) (b : Nat) : Array Value → State → Outcome → State → Prop := fun _ st oc t => oc = .returned r ∧ zH D g m t.heap ∧ va_F (fun q => b ≤ q) st t
def zXc (D : zDc) (q : Nat) (g : zGd) (m : zMm) (b : Nat) : String → Addr → State → State → Prop := fun E q' st t => E = RX5 ∧ q' = q ∧ zH D g m t.heap ∧ va_F (fun q => b ≤ q) st t
def zQr (D : zDc) (r : zRs) (g : zGd) (m : zMm) (b : Nat) : Array Value → State → Outcome → State → Prop := match r with
  | .inl v => zQc D v g m b
  | .inr _ => fun _ _ _ _ => False
def zXr (D : zDc) (r : zRs) (g : zGd) (m : zMm) (b : Nat) : String → Addr → State → State → Prop := match r with
  | .inl _ => fun _ _ _ _ => False
  | .inr q => zXc D q g m b
/-- what is owed at the end is what the method's contract says -/
def zFin (X : zCx) : Prop := match xr X with
  | .inl v => ∀ (H : Heap) (locs : List Loc) (gg : JFrame), W (xP X) (xl X) (xe X) (xR X) (xs X) (xm X) (xa X) (xb X) (xM X) (xC X) H locs (zZ (xf X) - zZ (xg X)) (zL (xf X) - zL (xg X)) (MQ (xb X) (zQc (xD X) v (xf X) (xn X) (zB (xg X))) (xa X) (xs X) (zZ (xf X) - zZ (xg X)) (zL (xf X) - zL (xg X)) (xA X)) gg → zW X H locs (zZ (xf X) - zZ (xg X)) (zL (xf X) - zL (xg X)) gg
  | .inr q => (∀ x : ExceptionTableEntry, x ∈ (xC X).exceptionTable.toList → False) ∧ xQ X = vx_MQ (xb X) (fun _ _ _ _ => False) (zXc (xD X) q (xf X) (xn X) (zB (xg X))) (xa X) (xs X) (zZ (xf X) - zZ (xg X)) (zL (xf X) - zL (xg X)) (xA X)
/-- what is fixed in a frame -/
def zFx (X : zCx) (cc : ByteArray) (nL : Nat) (own mn : String) (fr lo : Nat) : Prop :=
  (xP X).tables.exec = Jvm.exec ∧ (xC X).code = cc ∧ (xC X).maxLocals = nL ∧ (xs X).vm.findClass own = some (xm X).cls ∧ (∀ w ∈ lw_all, w.before (xa X) (xs X) = true) ∧
  zEnv (xD X) (zB (xg X)) (zS (xg X)) (xs X) (xs X).heap ∧ (xM X).locks = false ∧ ((xR X).frames = fr ∧ (xR X).locals = lo) ∧
  (zZ (xf X) - zZ (xg X) ≤ (xR X).cells ∧ zL (xf X) - zL (xg X) ≤ (xR X).slots) ∧ (∀ q : Nat, (xs X).heap.size ≤ q → zB (xg X) ≤ q) ∧ (xl X).flags = flags0 ∧ (xM X).name = mn ∧ (xM X).sig.returnType = xt X ∧ zFin X
theorem zFx.ex {X : zCx} {cc : ByteArray} {nL : Nat} {own mn : String} {fr lo : Nat} (h : zFx X cc nL own mn fr lo) : (xP X).tables.exec = Jvm.exec := h.1
theorem zFx.by {X : zCx} {cc : ByteArray} {nL : Nat} {own mn : String} {fr lo : Nat} (h : zFx X cc nL own mn fr lo) : (xC X).code = cc := h.2.1
theorem zFx.ml {X : zCx} {cc : ByteArray} {nL : Nat} {own mn : String} {fr lo : Nat} (h : zFx X cc nL own mn fr lo) : (xC X).maxLocals = nL := h.2.2.1
theorem zFx.ow {X : zCx} {cc : ByteArray} {nL : Nat} {own mn : String} {fr lo : Nat} (h : zFx X cc nL own mn fr lo) : (xs X).vm.findClass own = some (xm X).cls := h.2.2.2.1
theorem zFx.ts {X : zCx} {cc : ByteArray} {nL : Nat} {own mn : String} {fr lo : Nat} (h : zFx X cc nL own mn fr lo) : ∀ w ∈ lw_all, w.before (xa X) (xs X) = true := h.2.2.2.2.1
theorem zFx.en {X : zCx} {cc : ByteArray} {nL : Nat} {own mn : String} {fr lo : Nat} (h : zFx X cc nL own mn fr lo) : zEnv (xD X) (zB (xg X)) (zS (xg X)) (xs X) (xs X).heap := h.2.2.2.2.2.1
theorem zFx.lk {X : zCx} {cc : ByteArray} {nL : Nat} {own mn : String} {fr lo : Nat} (h : zFx X cc nL own mn fr lo) : (xM X).locks = false := h.2.2.2.2.2.2.1
theorem zFx.ro {X : zCx} {cc : ByteArray} {nL : Nat} {own mn : String} {fr lo : Nat} (h : zFx X cc nL own mn fr lo) : (xR X).frames = fr ∧ (xR X).locals = lo := h.2.2.2.2.2.2.2.1
theorem zFx.rc {X : zCx} {cc : ByteArray} {nL : Nat} {own mn : String} {fr lo : Nat} (h : zFx X cc nL own mn fr lo) : zZ (xf X) - zZ (xg X) ≤ (xR X).cells ∧ zL (xf X) - zL (xg X) ≤ (xR X).slots := h.2.2.2.2.2.2.2.2.1
theorem zFx.ge {X : zCx} {cc : ByteArray} {nL : Nat} {own mn : String} {fr lo : Nat} (h : zFx X cc nL own mn fr lo) : ∀ q : Nat, (xs X).heap.size ≤ q → zB (xg X) ≤ q := h.2.2.2.2.2.2.2.2.2.1
theorem zFx.fl {X : zCx} {cc : ByteArray} {nL : Nat} {own mn : String} {fr lo : Nat} (h : zFx X cc nL own mn fr lo) : (xl X).flags = flags0 := h.2.2.2.2.2.2.2.2.2.2.1
theorem zFx.nm {X : zCx} {cc : ByteArray} {nL : Nat} {own mn : String} {fr lo : Nat} (h : zFx X cc nL own mn fr lo) : (xM X).name = mn := h.2.2.2.2.2.2.2.2.2.2.2.1
theorem zFx.rt {X : zCx} {cc : ByteArray} {nL : Nat} {own mn : String} {fr lo : Nat} (h : zFx X cc nL own mn fr lo) : (xM X).sig.returnType = xt X := h.2.2.2.2.2.2.2.2.2.2.2.2.1
theorem zFx.fi {X : zCx} {cc : ByteArray} {nL : Nat} {own mn : String} {fr lo : Nat} (h : zFx X cc nL own mn fr lo) : zFin X := h.2.2.2.2.2.2.2.2.2.2.2.2.2
theorem zFx.K {X : zCx} {cc : ByteArray} {nL : Nat} {own mn : String} {fr lo : Nat} (h : zFx X cc nL own mn fr lo) : va_K (xD X).1 zCl (zTys (xD X).2) (xs X) := h.en.1
theorem zFx.N {X : zCx} {cc : ByteArray} {nL : Nat} {own mn : String} {fr lo : Nat} (h : zFx X cc nL own mn fr lo) : zNest (xs X) := h.en.2.1
/-- THE JUDGEMENT: from here (pc, locals L, stack st, world g m) the frame comes to what it owes; and the world at its end is behind this one -/
def zG (X : zCx) (cc : ByteArray) (nL : Nat) (own mn : String) (fr lo pc : Nat) (L : List (Nat × Value)) (st : List Value) (g : zGd) (m : zMm) : Prop :=
  zLe g (xf X) ∧ (zFx X cc nL own mn fr lo → ∀ (H : Heap) (locs : List Loc) (cells slots : Nat) (ls : Array Slot), zRn X g m H locs cells slots → lv_has ls nL L → zW X H locs cells slots (F0 (xm X) pc ls st))
theorem zG.sub {X : zCx} {cc : ByteArray} {nL : Nat} {own mn : String} {fr lo pc : Nat} {L L' : List (Nat × Value)} {st : List Value} {g : zGd} {m : zMm} (ks : List Nat) (hl : lv_pick L ks = L') (k : zG X cc nL own mn fr lo pc L' st g m) : zG X cc nL own mn fr lo pc L st g m :=
  ⟨k.1, fun hF H locs cells slots ls hR hL => k.2 hF H locs cells slots ls hR (lv_sub hL ks hl)⟩
theorem zCx_ne (g g' : zGd) (ret : Option FieldType) (r : zRs) (m : zMm) : ∃ X : zCx, xg X = g ∧ xf X = g' ∧ xt X = ret ∧ xr X = r ∧ xn X = m := ⟨((Program.bare "" "" "", launch0, { classPath := default }, {}, default), (default, #[], [], default, ⟨0, 0, .empty, #[], #[]⟩), fun _ => True, ((fun _ => 0, fun _ _ => 0), fun _ => 0), g, g', ret, r, m), rfl, rfl, rfl, rfl, rfl⟩
