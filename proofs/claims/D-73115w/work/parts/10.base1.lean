/-! BASE 1: worlds. A world is (g, m): g its base address, size, slots, statics and kinds; m what its cells hold. -/
set_option maxRecDepth 100000
abbrev zGd : Type := Nat × Nat × Nat × (Nat → Option Nat) × (Nat → Nat × Nat)
abbrev zMm : Type := (Nat → Nat → Int32) × (Nat → Nat → Int64) × (Nat → Nat → Option Nat)
def zB (g : zGd) : Nat := g.1
def zZ (g : zGd) : Nat := g.2.1
def zL (g : zGd) : Nat := g.2.2.1
def zS (g : zGd) : Nat → Option Nat := g.2.2.2.1
def zK (g : zGd) : Nat → Nat × Nat := g.2.2.2.2
def zI (m : zMm) : Nat → Nat → Int32 := m.1
def zJ (m : zMm) : Nat → Nat → Int64 := m.2.1
def zR (m : zMm) : Nat → Nat → Option Nat := m.2.2
/-- one place written -/
def zup {α : Type} (f : Nat → Nat → α) (a k : Nat) (v : α) : Nat → Nat → α := fun a' k' => if a' = a ∧ k' = k then v else f a' k'
/-- a whole cell written -/
def zrow {α : Type} (f : Nat → Nat → α) (a : Nat) (v : Nat → α) : Nat → Nat → α := fun a' k' => if a' = a then v k' else f a' k'
def zsI (m : zMm) (a k : Nat) (v : Int32) : zMm := (zup m.1 a k v, m.2.1, m.2.2)
def zsJ (m : zMm) (a k : Nat) (v : Int64) : zMm := (m.1, zup m.2.1 a k v, m.2.2)
def zsR (m : zMm) (a k : Nat) (v : Option Nat) : zMm := (m.1, m.2.1, zup m.2.2 a k v)
theorem zsI_I (m : zMm) (a k : Nat) (v : Int32) : zI (zsI m a k v) = zup (zI m) a k v := rfl
theorem zsI_J (m : zMm) (a k : Nat) (v : Int32) : zJ (zsI m a k v) = zJ m := rfl
theorem zsI_R (m : zMm) (a k : Nat) (v : Int32) : zR (zsI m a k v) = zR m := rfl
theorem zsJ_I (m : zMm) (a k : Nat) (v : Int64) : zI (zsJ m a k v) = zI m := rfl
theorem zsJ_J (m : zMm) (a k : Nat) (v : Int64) : zJ (zsJ m a k v) = zup (zJ m) a k v := rfl
theorem zsJ_R (m : zMm) (a k : Nat) (v : Int64) : zR (zsJ m a k v) = zR m := rfl
theorem zsR_I (m : zMm) (a k : Nat) (v : Option Nat) : zI (zsR m a k v) = zI m := rfl
theorem zsR_J (m : zMm) (a k : Nat) (v : Option Nat) : zJ (zsR m a k v) = zJ m := rfl
theorem zsR_R (m : zMm) (a k : Nat) (v : Option Nat) : zR (zsR m a k v) = zup (zR m) a k v := rfl
theorem zup_s {α : Type} (f : Nat → Nat → α) (a k : Nat) (v : α) : zup f a k v a k = v := if_pos ⟨rfl, rfl⟩
theorem zup_a {α : Type} (f : Nat → Nat → α) {a k a' k' : Nat} (v : α) (h : ¬ a' = a) : zup f a k v a' k' = f a' k' := if_neg (fun q => h q.1)
theorem zup_k {α : Type} (f : Nat → Nat → α) {a k a' k' : Nat} (v : α) (h : ¬ k' = k) : zup f a k v a' k' = f a' k' := if_neg (fun q => h q.2)
theorem zup_r {α : Type} (f : Nat → Nat → α) {a k a' : Nat} (v : α) (h : ¬ a' = a) : zup f a k v a' = f a' := funext fun _ => zup_a f v h
/-- the classes: their field kinds (0 an int, 1 a long, 2 a reference) -/
def zFT : List (List Nat) := [
  [2, 2, 2, 0, 0, 0, 2, 2, 2, 2, 0, 0, 0, 0, 0, 0, 0, 2, 0, 2, 2],
  [2, 2, 2, 2, 2, 2, 2, 2, 2, 2, 2, 2],
  [2, 2, 2, 2, 0, 0, 0, 0, 0, 0, 0, 1, 0, 0, 0, 2, 0, 0, 0, 0, 2, 2, 2, 0, 0, 2, 2, 2, 0, 0, 0, 2, 0, 0, 0, 0, 2, 2, 2],
  [2, 0, 0, 0, 0, 0, 0, 0],
  [2, 0, 2],
  [0, 0, 2],
  [2, 2, 2],
  [0],
  [2],
  [0, 2, 2],
  [0, 2],
  [2, 2, 2],
  [0],
  [2],
  [2],
  [2],
  [0, 0, 0, 0],
  [0, 2, 0],
  [2, 0],
  [0]]
def zN (ci : Nat) : Nat := (zFT.getD ci []).length
def zF (ci k : Nat) : Nat := (zFT.getD ci []).getD k 0
def zV (ci : Nat) (m : zMm) (a k : Nat) : Value := match zF ci k with
  | 0 => .int (zI m a k)
  | 1 => .long (zJ m a k)
  | _ => va_rf (zR m a k)
def zFs (ci : Nat) (m : zMm) (a : Nat) : List Value := (List.range (zN ci)).map (zV ci m a)
theorem zFs_at {ci k : Nat} (m : zMm) (a : Nat) (h : k < zN ci) : (zFs ci m a)[k]? = some (zV ci m a k) := by
  simp [zFs, h]
theorem zFs_len (ci : Nat) (m : zMm) (a : Nat) : (zFs ci m a).length = zN ci := by simp [zFs]
/-- String: only two of its fields are spoken of -/
def zTS : u_T := fun k => match k with
  | 0 => ("java/lang/String", "value", "[B", true)
  | _ => ("java/lang/String", "coder", "B", true)
/-- Wrong: its own two fields are spoken of, and that it holds no backtrace -/
def zTW : u_T := fun k => match k with
  | 0 => ("QuiverKin$Wrong", "fault", "I", true)
  | 1 => ("QuiverKin$Wrong", "place", "I", true)
  | _ => ("java/lang/Throwable", "backtrace", "Ljava/lang/Object;", false)
def zCl : List vw_C := [(RX0, TX0, 21), (RX1, TX1, 12), (RX2, TX2, 39), (RX3, TX3, 8), (RX4, TX4, 3), (RX5, zTW, 3), (RX6, TX6, 3), (RX7, TX7, 1), (RX8, TX8, 1), (RX9, TX9, 3), (RX10, TX10, 2), (RX11, TX11, 3), (RX12, TX12, 1), (RX13, TX13, 1), (RX14, TX14, 1), (RX15, TX15, 1), (RX16, TX16, 4), (RJ2, TJ2, 3), (RJ3, zTS, 2), (RJ15, TJ15, 1)]
/-- how many slots an object of the class has -/
def zSl (ci : Nat) : Nat := if ci = 5 then 8 else zN ci
theorem zN_cl : ∀ ci : Nat, ci < 20 → (zCl[ci]?).map (fun r => r.2.2) = some (zN ci) := by decide
/-- what fixes a run's classes: of objects, of arrays -/
abbrev zDc : Type := va_G × (Nat → ClassId)
def zTy : List FieldType := [.int, .byte, .boolean, .long, .object "java/lang/Object", .array .int, .object "QuiverKin$Sum", .object "QuiverKin$Text", .object "java/lang/String", .object "java/lang/Integer"]
def zTys (cA : Nat → ClassId) : List (ClassId × FieldType) := [(cA 0, .int), (cA 1, .byte), (cA 2, .boolean), (cA 3, .long), (cA 4, .object "java/lang/Object"), (cA 5, .array .int), (cA 6, .object "QuiverKin$Sum"), (cA 7, .object "QuiverKin$Text")]
def zTy8 : List FieldType := [.int, .byte, .boolean, .long, .object "java/lang/Object", .array .int, .object "QuiverKin$Sum", .object "QuiverKin$Text"]
/-- the cell at a -/
def zE (D : zDc) (g : zGd) (m : zMm) (a : Nat) : va_E :=
  if (zK g a).1 < 101 then .inr ((zK g a).1 - 1, zFs ((zK g a).1 - 1) m a)
  else if (zK g a).1 < 104 then .inl (D.2 ((zK g a).1 - 101), (zK g a).2, .inl (zI m a))
  else if (zK g a).1 = 104 then .inl (D.2 3, (zK g a).2, .inr (.inl (zJ m a)))
  else .inl (D.2 ((zK g a).1 - 101), (zK g a).2, .inr (.inr (.inr (.inr (zR m a)))))
/-- an array lies there: its class, its length, its values; its monitor and its hash are not spoken of -/
def zAr (H : Heap) (a : Nat) (c : ClassId) (n : Nat) (V : Nat → Value) : Prop := ∃ cell : Cell, H[a]? = some cell ∧ (cell.cls = c ∧ (n ≤ cell.slots.size ∧ Int32.ofNat cell.slots.size = Int32.ofNat n) ∧ ∀ j, j < n → cell.slots[j]? = some (V j)) ∧ (cell.vm ≠ .unknown ∧ ∀ k, cell.vm ≠ .statics k)
def zxv (x : (Nat → Int32) ⊕ (Nat → Int64) ⊕ (Nat → UInt32) ⊕ (Nat → UInt64) ⊕ (Nat → Option Nat)) : Nat → Value := match x with
  | .inl f => fun j => .int (f j)
  | .inr (.inl f) => fun j => .long (f j)
  | .inr (.inr (.inl f)) => fun j => .float (f j)
  | .inr (.inr (.inr (.inl f))) => fun j => .double (f j)
  | .inr (.inr (.inr (.inr f))) => fun j => va_rf (f j)
def zAt (D : zDc) (q : Nat × va_E) (H : Heap) : Prop := match q.2 with
  | .inl a => zAr H q.1 a.1 a.2.1 (zxv a.2.2)
  | .inr o => va_at D.1 zCl (q.1, .inr o) H
theorem zAr.mk {H : Heap} {a n : Nat} {c : ClassId} {V : Nat → Value} (h : H[a]? = some (arrV c n V)) : zAr H a c n V := ⟨_, h, ⟨rfl, ⟨Nat.le_of_eq (arrV_size _ _ _).symm, by rw [arrV_size]⟩, fun j hj => arrV_read _ _ hj⟩, (fun q => by cases q), fun _ q => by cases q⟩
theorem zAr.set {H1 : Heap} {a n i : Nat} {c : ClassId} {V V' : Nat → Value} {cell : Cell} {v : Value} (e : H1[a]? = some (cell.setSlot i v)) (e1 : cell.cls = c) (e2 : n ≤ cell.slots.size ∧ Int32.ofNat cell.slots.size = Int32.ofNat n) (e3 : ∀ j, j < n → cell.slots[j]? = some (V j)) (e4 : cell.vm ≠ .unknown ∧ ∀ k, cell.vm ≠ .statics k) (hV : ∀ j, V' j = if j = i then v else V j) : zAr H1 a c n V' := by
  have hz : (cell.setSlot i v).slots.size = cell.slots.size := Array.size_setIfInBounds ..
  refine ⟨_, e, ⟨e1, ⟨by rw [hz]; exact e2.1, by rw [hz]; exact e2.2⟩, fun j hj => ?_⟩, e4⟩
  show (cell.slots.setIfInBounds i v)[j]? = _
  rw [Array.getElem?_setIfInBounds, hV j]
  by_cases h : i = j
  · have := e2.1; rw [if_pos h, if_pos h.symm, if_pos (by omega)]
  · rw [if_neg h, if_neg (Ne.symm h)]
    exact e3 j hj
theorem zAt.of {D : zDc} {q : Nat × va_E} {H : Heap} (h : va_at D.1 zCl q H) : zAt D q H := by
  obtain ⟨a, e⟩ := q
  cases e with
  | inr o => exact h
  | inl x =>
    obtain ⟨c, n, f | f | f | f | f⟩ := x
    · exact zAr.mk h
    · exact zAr.mk h
    · exact zAr.mk h
    · exact zAr.mk h
    · exact zAr.mk h
theorem zAt.kept {D : zDc} {q : Nat × va_E} {H H1 : Heap} (h : zAt D q H) (hq : H1[q.1]? = H[q.1]?) : zAt D q H1 := by
  obtain ⟨a, e⟩ := q
  cases e with
  | inr o => exact va_at.kept (D := D.1) (cl := zCl) (q := (a, .inr o)) h hq
  | inl x =>
    obtain ⟨cell, h1, h2⟩ := h
    exact ⟨cell, by rw [hq]; exact h1, h2⟩
theorem zAt.lt {D : zDc} {q : Nat × va_E} {H : Heap} (h : zAt D q H) : q.1 < H.size := by
  obtain ⟨a, e⟩ := q
  cases e with
  | inr o => exact va_at.lt (D := D.1) (cl := zCl) (q := (a, .inr o)) h
  | inl x =>
    obtain ⟨cell, h1, h2⟩ := h
    exact (Array.getElem?_eq_some_iff.mp h1).1
/-- the heap holds the world -/
def zMf (g : zGd) (H : Heap) : Prop := ∀ a : Nat, (zK g a).1 = 6 → ∃ cell : Cell, H[a]? = some cell ∧ (cell.monitor.owner = none ∧ cell.monitor.count = 0) ∧ cell.slots.size = 8
def zH (D : zDc) (g : zGd) (m : zMm) (H : Heap) : Prop := H.size = zZ g ∧ (∀ a : Nat, (zK g a).1 ≠ 0 → zAt D (a, zE D g m a) H) ∧ zMf g H
theorem zE_o {D : zDc} {g : zGd} {m : zMm} {a ci n : Nat} (h : zK g a = (ci + 1, n)) (hc : ci < 100) : zE D g m a = .inr (ci, zFs ci m a) := by
  unfold zE
  rw [h, if_pos (show ci + 1 < 101 by omega)]
  rfl
theorem zE_i {D : zDc} {g : zGd} {m : zMm} {a t n : Nat} (h : zK g a = (t + 101, n)) (ht : t < 3) : zE D g m a = .inl (D.2 t, n, .inl (zI m a)) := by
  unfold zE
  rw [h, if_neg (show ¬ t + 101 < 101 by omega), if_pos (show t + 101 < 104 by omega)]
  rfl
theorem zE_l {D : zDc} {g : zGd} {m : zMm} {a n : Nat} (h : zK g a = (104, n)) : zE D g m a = .inl (D.2 3, n, .inr (.inl (zJ m a))) := by
  unfold zE
  rw [h, if_neg (show ¬ 104 < 101 by decide), if_neg (show ¬ 104 < 104 by decide), if_pos rfl]
theorem zE_q {D : zDc} {g : zGd} {m : zMm} {a t n : Nat} (h : zK g a = (t + 101, n)) (ht : 4 ≤ t) : zE D g m a = .inl (D.2 t, n, .inr (.inr (.inr (.inr (zR m a))))) := by
  unfold zE
  rw [h, if_neg (show ¬ t + 101 < 101 by omega), if_neg (show ¬ t + 101 < 104 by omega), if_neg (show ¬ t + 101 = 104 by omega)]
  rfl
/-- one cell written -/
theorem zH.set {D : zDc} {g : zGd} {m m' : zMm} {H H1 : Heap} {a : Nat} (h : zH D g m H) (hz : H1.size = H.size) (oq : ∀ q : Nat, q ≠ a → H1[q]? = H[q]?) (ha : zAt D (a, zE D g m' a) H1) (ho : ∀ q : Nat, q ≠ a → zE D g m' q = zE D g m q) (hm : (zK g a).1 = 6 → ∃ cell : Cell, H1[a]? = some cell ∧ (cell.monitor.owner = none ∧ cell.monitor.count = 0) ∧ cell.slots.size = 8) : zH D g m' H1 := by
  refine ⟨hz.trans h.1, fun q hq => ?_, fun q hq => ?_⟩
  · by_cases e : q = a
    · subst e; exact ha
    · rw [ho q e]
      exact (h.2.1 q hq).kept (oq q e)
  · by_cases e : q = a
    · subst e; exact hm hq
    · obtain ⟨cell, h1, h2⟩ := h.2.2 q hq
      exact ⟨cell, by rw [oq q e]; exact h1, h2⟩
theorem zFs_up {ci : Nat} {m m' : zMm} {q : Nat} (h1 : zI m' q = zI m q) (h2 : zJ m' q = zJ m q) (h3 : zR m' q = zR m q) : zFs ci m' q = zFs ci m q := by
  unfold zFs
  congr 1
  funext k
  unfold zV
  rw [h1, h2, h3]
theorem zE_up {D : zDc} {g : zGd} {m m' : zMm} {q : Nat} (h1 : zI m' q = zI m q) (h2 : zJ m' q = zJ m q) (h3 : zR m' q = zR m q) : zE D g m' q = zE D g m q := by
  unfold zE
  rw [zFs_up h1 h2 h3, h1, h2, h3]
/-- a new cell at the end -/
def zgrow (g : zGd) (n t len : Nat) : zGd := (g.1, g.2.1 + 1, g.2.2.1 + n, g.2.2.2.1, fun a => if a = g.2.1 then (t, len) else g.2.2.2.2 a)
def zfresh (m : zMm) (a : Nat) : zMm := (zrow m.1 a (fun _ => 0), zrow m.2.1 a (fun _ => 0), zrow m.2.2 a (fun _ => none))
theorem zgrow_B (g : zGd) (n t len : Nat) : zB (zgrow g n t len) = zB g := rfl
theorem zgrow_Z (g : zGd) (n t len : Nat) : zZ (zgrow g n t len) = zZ g + 1 := rfl
theorem zgrow_L (g : zGd) (n t len : Nat) : zL (zgrow g n t len) = zL g + n := rfl
theorem zgrow_S (g : zGd) (n t len : Nat) : zS (zgrow g n t len) = zS g := rfl
theorem zgrow_Ks (g : zGd) (n t len : Nat) : zK (zgrow g n t len) (zZ g) = (t, len) := if_pos rfl
theorem zgrow_Kn (g : zGd) (n t len : Nat) {a : Nat} (h : ¬ a = zZ g) : zK (zgrow g n t len) a = zK g a := if_neg h
theorem zfresh_I (m : zMm) (a : Nat) : zI (zfresh m a) a = fun _ => 0 := by funext k; exact if_pos rfl
theorem zfresh_J (m : zMm) (a : Nat) : zJ (zfresh m a) a = fun _ => 0 := by funext k; exact if_pos rfl
theorem zfresh_R (m : zMm) (a : Nat) : zR (zfresh m a) a = fun _ => none := by funext k; exact if_pos rfl
theorem zfresh_In (m : zMm) {a q : Nat} (h : ¬ q = a) : zI (zfresh m a) q = zI m q := by funext k; exact if_neg h
theorem zfresh_Jn (m : zMm) {a q : Nat} (h : ¬ q = a) : zJ (zfresh m a) q = zJ m q := by funext k; exact if_neg h
theorem zfresh_Rn (m : zMm) {a q : Nat} (h : ¬ q = a) : zR (zfresh m a) q = zR m q := by funext k; exact if_neg h
theorem zH.lt {D : zDc} {g : zGd} {m : zMm} {H : Heap} (h : zH D g m H) {a : Nat} (ha : (zK g a).1 ≠ 0) : a < zZ g := by
  rw [← h.1]
  exact (h.2.1 a ha).lt
theorem zH.grow {D : zDc} {g : zGd} {m : zMm} {H H1 : Heap} {n t len : Nat} (h : zH D g m H) (hz : H1.size = H.size + 1) (oq : ∀ q : Nat, q < H.size → H1[q]? = H[q]?) (ha : zAt D (zZ g, zE D (zgrow g n t len) (zfresh m (zZ g)) (zZ g)) H1) (hm : t = 6 → ∃ cell : Cell, H1[zZ g]? = some cell ∧ (cell.monitor.owner = none ∧ cell.monitor.count = 0) ∧ cell.slots.size = 8) : zH D (zgrow g n t len) (zfresh m (zZ g)) H1 := by
  refine ⟨by rw [hz, h.1]; rfl, fun q hq => ?_, fun q hq => ?_⟩
  · by_cases e : q = zZ g
    · subst e; exact ha
    · rw [zgrow_Kn g n t len e] at hq
      have hlt := h.lt hq
      have e1 : zE D (zgrow g n t len) (zfresh m (zZ g)) q = zE D g m q := by
        rw [zE_up (zfresh_In m e) (zfresh_Jn m e) (zfresh_Rn m e)]
        unfold zE
        rw [zgrow_Kn g n t len e]
      rw [e1]
      exact (h.2.1 q hq).kept (oq q (by rw [h.1]; exact hlt))
  · by_cases e : q = zZ g
    · subst e
      rw [zgrow_Ks] at hq
      exact hm hq
    · rw [zgrow_Kn g n t len e] at hq
      have hlt := h.lt (a := q) (by omega)
      obtain ⟨cell, h1, h2⟩ := h.2.2 q hq
      exact ⟨cell, by rw [oq q (by rw [h.1]; exact hlt)]; exact h1, h2⟩
/-- the world goes on: the base, the statics stay, cells are added alone -/
def zLe (g g' : zGd) : Prop := zB g' = zB g ∧ zS g' = zS g ∧ zZ g ≤ zZ g' ∧ zL g ≤ zL g'
theorem zLe.rf {g : zGd} : zLe g g := ⟨rfl, rfl, Nat.le_refl _, Nat.le_refl _⟩
theorem zLe.tr {a b c : zGd} (h1 : zLe a b) (h2 : zLe b c) : zLe a c := ⟨h2.1.trans h1.1, h2.2.1.trans h1.2.1, Nat.le_trans h1.2.2.1 h2.2.2.1, Nat.le_trans h1.2.2.2 h2.2.2.2⟩
theorem zLe.grow (g : zGd) (n t len : Nat) : zLe g (zgrow g n t len) := ⟨rfl, rfl, Nat.le_succ _, Nat.le_add_right _ _⟩
