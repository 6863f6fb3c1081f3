/-! ROWS 6: references into arrays, arrays of references, casts, copies, String (printed by gen/rows6.py) -/
set_option maxRecDepth 100000
/-- which classes' objects may lie in the arrays of references -/
def zAs (t : Nat) : List Nat := if t = 4 then [0, 1, 2, 3, 4, 5, 6, 7, 8, 9, 10, 11, 12, 13, 14, 15, 16, 17, 18, 19] else if t = 6 then [6, 7, 11, 12, 13, 14, 15] else if t = 7 then [4] else []
def zAsOk (t : Nat) (x : Nat) : Bool := (zAs t).any (fun c => x == c + 1)
section
variable {X : zCx} {cc : ByteArray} {nL pc fr lo : Nat} {own mn : String} {L : List (Nat × Value)} {st : List Value} {g : zGd} {m : zMm} {α : Type} {fin : α}
theorem zAny1 {ci a : Nat} {q : vw_C} {E : String} {H : Heap} {locs : List Loc} {cells slots : Nat} (hF : zFx X cc nL own mn fr lo) (hR : zRn X g m H locs cells slots) (hc : zCl[ci]? = some q) (hlt : ci < 100) (hw : Cond.castable q.1 E ∈ lw_tbl) (h : (zK g a).1 = ci + 1) : va_Any E (xs X) H a := by
  refine va_rAny hF.K (hR.at h hlt) (q0 := 0) (ci := ci) rfl hc (fun comp c0 h1 h2 => ?_)
  obtain ⟨c1, t1, f1, f2, f3⟩ := Cond.castable_spec (va_Nw.use (A := #[]) rfl (hF.N.2.2.1 _ _ hw))
  cases h1.symm.trans f2
  cases h2.symm.trans f1
  exact f3
theorem zAny2 {ci a : Nat} {q : vw_C} {H : Heap} {locs : List Loc} {cells slots : Nat} (hF : zFx X cc nL own mn fr lo) (hR : zRn X g m H locs cells slots) (hc : zCl[ci]? = some q) (hlt : ci < 100) (h : (zK g a).1 = ci + 1) : va_Any q.1 (xs X) H a := by
  refine va_rAny hF.K (hR.at h hlt) (q0 := 0) (ci := ci) rfl hc (fun comp c0 h1 h2 => ?_)
  have hat := (hF.K.1 ci q hc).2
  cases h1.symm.trans hat.1
  cases h2.symm.trans hat.1
  exact va_assign hat
theorem zAnyT {t a : Nat} {E : String} {H : Heap} {locs : List Loc} {cells slots : Nat} (hF : zFx X cc nL own mn fr lo) (hR : zRn X g m H locs cells slots) (ht : zTy8[t]? = some (.object E)) (h : zAsOk t (zK g a).1 = true) : va_Any E (xs X) H a := by
  unfold zAsOk at h
  obtain ⟨c, hc, he⟩ := List.any_eq_true.mp h
  have he : (zK g a).1 = c + 1 := by simpa using he
  have hl : t < 8 := (List.getElem?_eq_some_iff.mp ht).1
  match t, hl with
  | 0, _ => cases hc
  | 1, _ => cases hc
  | 2, _ => cases hc
  | 3, _ => cases hc
  | 5, _ => cases hc
  | 4, _ =>
    cases ht
    have hc : c ∈ ([0, 1, 2, 3, 4, 5, 6, 7, 8, 9, 10, 11, 12, 13, 14, 15, 16, 17, 18, 19] : List Nat) := hc
    simp only [List.mem_cons, List.not_mem_nil, or_false] at hc
    rcases hc with e | e | e | e | e | e | e | e | e | e | e | e | e | e | e | e | e | e | e | e <;> subst e
    · exact zAny1 hF hR zc0 (by decide) q2114 he
    · exact zAny1 hF hR zc1 (by decide) q2115 he
    · exact zAny1 hF hR zc2 (by decide) q2116 he
    · exact zAny1 hF hR zc3 (by decide) q2117 he
    · exact zAny1 hF hR zc4 (by decide) q2111 he
    · exact zAny1 hF hR zc5 (by decide) q2119 he
    · exact zAny1 hF hR zc6 (by decide) q2120 he
    · exact zAny1 hF hR zc7 (by decide) q2121 he
    · exact zAny1 hF hR zc8 (by decide) q2122 he
    · exact zAny1 hF hR zc9 (by decide) q2123 he
    · exact zAny1 hF hR zc10 (by decide) q2124 he
    · exact zAny1 hF hR zc11 (by decide) q2125 he
    · exact zAny1 hF hR zc12 (by decide) q2126 he
    · exact zAny1 hF hR zc13 (by decide) q2127 he
    · exact zAny1 hF hR zc14 (by decide) q2128 he
    · exact zAny1 hF hR zc15 (by decide) q2129 he
    · exact zAny1 hF hR zc16 (by decide) q2131 he
    · exact zAny1 hF hR zc17 (by decide) q2118 he
    · exact zAny1 hF hR zc18 (by decide) q2113 he
    · exact zAny1 hF hR zc19 (by decide) q2130 he
  | 6, _ =>
    cases ht
    have hc : c ∈ ([6, 7, 11, 12, 13, 14, 15] : List Nat) := hc
    simp only [List.mem_cons, List.not_mem_nil, or_false] at hc
    rcases hc with e | e | e | e | e | e | e <;> subst e
    · exact zAny1 hF hR zc6 (by decide) q980 he
    · exact zAny1 hF hR zc7 (by decide) q1031 he
    · exact zAny1 hF hR zc11 (by decide) q988 he
    · exact zAny1 hF hR zc12 (by decide) q1025 he
    · exact zAny1 hF hR zc13 (by decide) q972 he
    · exact zAny1 hF hR zc14 (by decide) q1037 he
    · exact zAny1 hF hR zc15 (by decide) q1017 he
  | 7, _ =>
    cases ht
    have hc : c ∈ ([4] : List Nat) := hc
    simp only [List.mem_cons, List.not_mem_nil, or_false] at hc
    subst hc
    exact zAny2 hF hR zc4 (by decide) he
def zastr (t : Nat) (g : zGd) (m : zMm) (a : Option Nat) (i : Int32) (v : Option Nat) : Option zMm := a.bind fun a => if (((zK g a).1 = t + 101 ∧ zB g ≤ a) ∧ ¬ (i < 0 ∨ (zK g a).2 ≤ i.toNatClampNeg)) ∧ ((match v with | none => true | some y => zAsOk t (zK g y).1) = true) then some (zsR m a i.toNatClampNeg v) else none
theorem zastr_e {t : Nat} {a : Option Nat} {i : Int32} {v : Option Nat} {K : zMm → Option α} (h : (zastr t g m a i v).bind K = some fin) : ∃ a0, a = some a0 ∧ (((zK g a0).1 = t + 101 ∧ zB g ≤ a0) ∧ ¬ (i < 0 ∨ (zK g a0).2 ≤ i.toNatClampNeg)) ∧ (∀ y, v = some y → zAsOk t (zK g y).1 = true) ∧ K (zsR m a0 i.toNatClampNeg v) = some fin := by
  unfold zastr at h
  obtain ⟨a0, e, h1, h2⟩ := zop h
  exact ⟨a0, e, h1.1, fun y ey => by subst ey; exact h1.2, h2⟩
theorem g_aast (t : Nat) {E : String} (ht : zTy8[t]? = some (.object E)) (h4 : 4 ≤ t) {a : Option Nat} {i : Int32} {v : Option Nat} {K : zMm → Option α} (d : decode cc pc = .ok (.aastore, 1)) (h : (zastr t g m a i v).bind K = some fin) (kk : ∀ m', K m' = some fin → zG X cc nL own mn fr lo (pc + 1) L st g m') : zG X cc nL own mn fr lo pc L (va_rf v :: .int i :: va_rf a :: st) g m := by
  obtain ⟨a0, rfl, h1, h3, h2⟩ := zastr_e h
  refine ⟨(kk _ h2).1, fun hF H locs cells slots ls hR hL => ?_⟩
  obtain ⟨cell, hc0, ⟨e1, e2, e3⟩, e4⟩ := hR.aq h1.1.1 h4
  have hlt : i.toNatClampNeg < (zK g a0).2 := Nat.not_le.mp fun q => h1.2 (Or.inr q)
  have h0 : ¬ i < 0 := fun q => h1.2 (Or.inl q)
  have fin2 : ∀ (H1 : Heap), H1[a0]? = some (cell.setSlot i.toNatClampNeg (va_rf v)) → H1.size = H.size → (∀ q, q ≠ a0 → H1[q]? = H[q]?) → zW X H1 (locs ++ [⟨a0, i.toNatClampNeg⟩]) cells slots (F0 (xm X) (pc + 1) ls st) := by
    intro H1 e z oq
    refine (kk _ h2).2 hF H1 _ cells slots ls (hR.put h1.1.2 z oq ?_ (fun q hq => zsR_o q hq) (fun h6 => by rw [h1.1.1] at h6; omega)) hL
    rw [zE_q (zK1 h1.1.1) h4]
    refine zAr.set e e1 e2 e3 e4 (fun q => ?_)
    show va_rf (zup (zR m) a0 _ _ a0 q) = _
    by_cases hq : q = i.toNatClampNeg
    · rw [if_pos hq, hq, zup_s]
    · rw [if_neg hq, zup_k _ _ hq]
  cases v with
  | none => exact va_WaastN (C := E) hF.ex hF.by hc0 (zIsA (hF.K.2 t _ (zTys_at ht)).1 e1 e4) e4.1 (fun q => h1.2 (q.imp id (Nat.le_trans e2.1))) rfl rfl d (fun H1 e z oq => fin2 H1 e z oq)
  | some y =>
    obtain ⟨cellV, g1, g3, ⟨kC, hkC⟩, hasg⟩ := zAnyT hF hR ht (h3 y rfl)
    obtain ⟨kA, comp, k1, k2, k3, -⟩ := (hF.K.2 t _ (zTys_at ht)).2
    obtain ⟨kE, hkE, -⟩ := Vm.findClass_spec k3
    exact W.aast hF.ex hF.by hc0 e4.2 e4.1 (by rw [e1]; exact k1) k2 rfl hkE ⟨h0, Nat.lt_of_lt_of_le hlt e2.1⟩ g1 (fun q h => by rw [h] at g3; cases g3) hkC (hasg _ k3) rfl rfl d (fun H1 e z oq => fin2 H1 e z oq)
theorem g_anew (t : Nat) {E : String} (ht : zTy8[t]? = some (.object E)) (h4 : 4 ≤ t) {index : Nat} {n : Int32} {K : zGd × zMm → Option α} (q1 : Cond.classLink own index E ∈ lw_all) (q2 : Cond.arrayOver (.object E) ∈ lw_tbl) (d : decode cc pc = .ok (.anewarray index, 3)) (h : (znewa (t + 101) g m n).bind K = some fin) (kk : ∀ g' m', K (g', m') = some fin → zG X cc nL own mn fr lo (pc + 3) L (va_rf (some (zZ g)) :: st) g' m') : zG X cc nL own mn fr lo pc L (.int n :: st) g m := by
  unfold znewa at h
  by_cases hn : ¬ n < 0 ∧ n.toNatClampNeg * 8 ≤ 536870912
  · rw [if_pos hn, Option.bind_some] at h
    have k0 := kk _ _ h
    refine ⟨(zLe.grow g _ _ _).tr k0.1, fun hF H locs cells slots ls hR hL => ?_⟩
    have hroom := zRn.room hF hR k0.1 (k := 1) (n := n.toNatClampNeg) (Nat.le_refl _) (Nat.le_refl _)
    have hsz := hR.1.1
    refine W.anew hF.ex hF.by hF.ow (hF.ts _ q1) (zAOf.use (hF.N.2.2.2.2.1 _ q2)) rfl d rfl hn.1 (by omega) hroom.1 hroom.2 fun cA kA comp f1 f2 f3 f4 => ?_
    have hcA : cA = (xD X).2 t := by
      obtain ⟨kA', comp', k1, k2, k3, k4⟩ := (hF.K.2 t _ (zTys_at ht)).2
      exact Option.some.inj (f1.symm.trans k4)
    rw [hcA, hsz]
    refine k0.2 hF _ locs _ _ ls (hR.grow (by rw [Array.size_push]) (fun q hq => by rw [Array.getElem?_push, if_neg (Nat.ne_of_lt hq)]) ?_ (fun h6 => by omega)) hL
    rw [zE_q (zgrow_Ks g _ _ _) h4, zfresh_R]
    refine zAr.mk ?_
    rw [← hsz, Array.getElem?_push_size]
    show some _ = some (arrV _ _ (fun _ => Value.null))
    rw [← arrV_new]
  · rw [if_neg hn] at h; cases h
theorem zCellExt {a b : Cell} (h1 : a.cls = b.cls) (h2 : a.slots.size = b.slots.size) (h3 : ∀ j, j < a.slots.size → a.slots[j]? = b.slots[j]?) (h4 : a.vm = b.vm) (h5 : a.monitor = b.monitor) (h6 : a.hash = b.hash) : a = b := by
  have hs : a.slots = b.slots := by
    apply Array.ext_getElem?
    intro j
    by_cases hj : j < a.slots.size
    · exact h3 j hj
    · rw [Array.getElem?_eq_none (by omega), Array.getElem?_eq_none (by omega)]
  cases a; cases b
  simp only at h1 h4 h5 h6 hs
  subst h1; subst h4; subst h5; subst h6; subst hs
  rfl
theorem zOuterMon (c : ClassId) (N h0 : Nat) : ∀ i : Nat, (Jvm.Free.Multi.outerC c N h0 i).monitor = {}
  | 0 => rfl
  | i + 1 => zOuterMon c N h0 i
theorem zOuterHash (c : ClassId) (N h0 : Nat) : ∀ i : Nat, (Jvm.Free.Multi.outerC c N h0 i).hash = none
  | 0 => rfl
  | i + 1 => zOuterHash c N h0 i
/-- int[n][k] -/
def zmulti (g : zGd) (m : zMm) (n k : Int32) : Option (zGd × zMm) := if ((¬ n < 0 ∧ ¬ k < 0) ∧ n.toNatClampNeg ≤ 1000) ∧ k.toNatClampNeg ≤ 1000 then some ((g.1, g.2.1 + (1 + n.toNatClampNeg), g.2.2.1 + (n.toNatClampNeg + n.toNatClampNeg * k.toNatClampNeg), g.2.2.2.1, fun a => if a = g.2.1 then (106, n.toNatClampNeg) else if g.2.1 < a ∧ a ≤ g.2.1 + n.toNatClampNeg then (101, k.toNatClampNeg) else g.2.2.2.2 a), (fun a j => if g.2.1 ≤ a ∧ a ≤ g.2.1 + n.toNatClampNeg then 0 else m.1 a j, m.2.1, fun a j => if a = g.2.1 then some (g.2.1 + 1 + j) else m.2.2 a j)) else none
theorem g_multi {index : Nat} {n k : Int32} {K : zGd × zMm → Option α} (q1 : Cond.classLink own index "[[I" ∈ lw_all) (q2 : Cond.arrayOver (.array .int) ∈ lw_tbl) (q3 : Cond.arrayClass .int ∈ lw_all) (d : decode cc pc = .ok (.multianewarray index 2, 4)) (h : (zmulti g m n k).bind K = some fin) (kk : ∀ g' m', K (g', m') = some fin → zG X cc nL own mn fr lo (pc + 4) L (va_rf (some (zZ g)) :: st) g' m') : zG X cc nL own mn fr lo pc L (.int k :: .int n :: st) g m := by
  unfold zmulti at h
  by_cases hn : ((¬ n < 0 ∧ ¬ k < 0) ∧ n.toNatClampNeg ≤ 1000) ∧ k.toNatClampNeg ≤ 1000
  · rw [if_pos hn, Option.bind_some] at h
    have k0 := kk _ _ h
    have hle : zLe g (g.1, g.2.1 + (1 + n.toNatClampNeg), g.2.2.1 + (n.toNatClampNeg + n.toNatClampNeg * k.toNatClampNeg), g.2.2.2.1, fun a => if a = g.2.1 then (106, n.toNatClampNeg) else if g.2.1 < a ∧ a ≤ g.2.1 + n.toNatClampNeg then (101, k.toNatClampNeg) else g.2.2.2.2 a) := ⟨rfl, rfl, Nat.le_add_right _ _, Nat.le_add_right _ _⟩
    refine ⟨hle.tr k0.1, fun hF H locs cells slots ls hR hL => ?_⟩
    have hroom := zRn.room hF hR k0.1 (k := 1 + n.toNatClampNeg) (n := n.toNatClampNeg + n.toNatClampNeg * k.toNatClampNeg) (Nat.le_refl _) (Nat.le_refl _)
    have hsz := hR.1.1
    intro T hT X'
    obtain ⟨vm₁, cA, comp, hW1, hfA, hfC, -, -, X1, step⟩ := X'.multianewarray2F hF.ex (own := own) (index := index) (ty := .int) hF.ow (hF.ts _ q1) (zAOf.use (hF.N.2.2.2.2.1 _ q2)) (hF.ts _ q3)
      (g := F0 (xm X) pc ls (.int k :: .int n :: st)) rfl (by rw [hF.by]; exact d) (n := n) (k := k) (rest := st) rfl hn.1.1.1 hn.1.1.2 (by omega) (by show k.toNatClampNeg * 4 ≤ _; omega) (by omega) rfl rfl hroom.1 hroom.2
    obtain ⟨f1, f2, f3, f4⟩ := Jvm.Free.Multi.fill_facts (T.setVm vm₁) cA comp n.toNatClampNeg k.toNatClampNeg (defaultValue .int) n.toNatClampNeg
    have hTz : (T.setVm vm₁).heap.size = zZ g := by show T.heap.size = _; rw [hT, hsz]
    have hTh : (T.setVm vm₁).heap = H := hT
    have hcA : cA = (xD X).2 5 := by
      have hra := (hF.K.2 5 _ rfl).2
      exact Option.some.inj (hfA.symm.trans hra)
    have hcI : comp = (xD X).2 0 := by
      have hra := (hF.K.2 0 _ rfl).2
      exact Option.some.inj (hfC.symm.trans hra)
    have hold : ∀ q : Nat, q < zZ g → (Jvm.Free.Multi.fill (T.setVm vm₁) cA comp n.toNatClampNeg k.toNatClampNeg (defaultValue .int) n.toNatClampNeg).heap[q]? = H[q]? := fun q hq => by
      rw [Jvm.Free.Multi.fill_old (T.setVm vm₁) cA comp _ _ _ (by rw [hTz]; exact hq), hTh]
    obtain ⟨o1, o2, o3⟩ := Jvm.Free.Multi.outerC_facts cA n.toNatClampNeg (T.setVm vm₁).heap.size n.toNatClampNeg
    have hRn : zRn X (g.1, g.2.1 + (1 + n.toNatClampNeg), g.2.2.1 + (n.toNatClampNeg + n.toNatClampNeg * k.toNatClampNeg), g.2.2.2.1, fun a => if a = g.2.1 then (106, n.toNatClampNeg) else if g.2.1 < a ∧ a ≤ g.2.1 + n.toNatClampNeg then (101, k.toNatClampNeg) else g.2.2.2.2 a) (fun a j => if g.2.1 ≤ a ∧ a ≤ g.2.1 + n.toNatClampNeg then 0 else m.1 a j, m.2.1, fun a j => if a = g.2.1 then some (g.2.1 + 1 + j) else m.2.2 a j) (Jvm.Free.Multi.fill (T.setVm vm₁) cA comp n.toNatClampNeg k.toNatClampNeg (defaultValue .int) n.toNatClampNeg).heap locs (cells + 1 + n.toNatClampNeg) (slots + n.toNatClampNeg + n.toNatClampNeg * k.toNatClampNeg) := by
      obtain ⟨⟨hz, h1, h6⟩, h2, h3, h4, h5⟩ := hR
      refine ⟨⟨?_, fun q hq => ?_, fun q hq => ?_⟩, ⟨?_, fun q k1 k2 => ?_, h2.2.2⟩, ?_, ?_, h5.tr hle⟩
      · rw [f1, hTz]; show zZ g + 1 + n.toNatClampNeg = g.2.1 + (1 + n.toNatClampNeg); show g.2.1 + 1 + n.toNatClampNeg = _; omega
      · by_cases e1 : q = g.2.1
        · subst e1
          have hk0 : zK (g.1, g.2.1 + (1 + n.toNatClampNeg), g.2.2.1 + (n.toNatClampNeg + n.toNatClampNeg * k.toNatClampNeg), g.2.2.2.1, fun a => if a = g.2.1 then (106, n.toNatClampNeg) else if g.2.1 < a ∧ a ≤ g.2.1 + n.toNatClampNeg then (101, k.toNatClampNeg) else g.2.2.2.2 a) g.2.1 = (5 + 101, n.toNatClampNeg) := if_pos rfl
          rw [zE_q (t := 5) hk0 (by decide), ← hcA]
          refine zAr.mk ?_
          have f2' := f2
          rw [hTz] at f2'
          refine f2'.trans ?_
          congr 1
          have o1' := o1; have o2' := o2
          rw [hTz] at o1' o2' o3
          refine zCellExt (by rw [o1']; rfl) (by rw [o3, arrV_size]) (fun j hj => ?_) (by rw [o2']; rfl) (zOuterMon _ _ _ _) (zOuterHash _ _ _ _)
          rw [o3] at hj
          rw [Jvm.Free.Multi.outerC_slot _ _ _ _ j hj, if_pos hj, arrV_read _ _ hj]
          show some (Value.ref (zZ g + 1 + j)) = some (va_rf (if g.2.1 = g.2.1 then some (g.2.1 + 1 + j) else _))
          rw [if_pos rfl]
          rfl
        · by_cases e2 : g.2.1 < q ∧ q ≤ g.2.1 + n.toNatClampNeg
          · obtain ⟨j, rfl⟩ : ∃ j, q = g.2.1 + 1 + j := ⟨q - (g.2.1 + 1), by omega⟩
            have hkq : zK (g.1, g.2.1 + (1 + n.toNatClampNeg), g.2.2.1 + (n.toNatClampNeg + n.toNatClampNeg * k.toNatClampNeg), g.2.2.2.1, fun a => if a = g.2.1 then (106, n.toNatClampNeg) else if g.2.1 < a ∧ a ≤ g.2.1 + n.toNatClampNeg then (101, k.toNatClampNeg) else g.2.2.2.2 a) (g.2.1 + 1 + j) = (0 + 101, k.toNatClampNeg) := by
              show (if _ then _ else _) = _
              rw [if_neg e1, if_pos e2]
            rw [zE_i (t := 0) hkq (by decide)]
            refine (show zAr _ _ _ _ (fun j' => Value.int (zI (fun a j => if g.2.1 ≤ a ∧ a ≤ g.2.1 + n.toNatClampNeg then 0 else m.1 a j, m.2.1, fun a j => if a = g.2.1 then some (g.2.1 + 1 + j) else m.2.2 a j) (g.2.1 + 1 + j) j')) from zAr.mk ?_)
            have f5 := Jvm.Free.Multi.fill_inner (T.setVm vm₁) cA comp n.toNatClampNeg k.toNatClampNeg (defaultValue .int) n.toNatClampNeg j (by omega)
            rw [hTz] at f5
            refine f5.trans ?_
            rw [← hcI]
            congr 1
            rw [show (fun j' => Value.int (zI (fun a j => if g.2.1 ≤ a ∧ a ≤ g.2.1 + n.toNatClampNeg then 0 else m.1 a j, m.2.1, fun a j => if a = g.2.1 then some (g.2.1 + 1 + j) else m.2.2 a j) (g.2.1 + 1 + j) j')) = (fun _ => Value.int 0) from by
              funext j'
              show Value.int (if _ then _ else _) = _
              rw [if_pos (by omega)], ← arrV_new]
            rfl
          · have hkq : zK (g.1, g.2.1 + (1 + n.toNatClampNeg), g.2.2.1 + (n.toNatClampNeg + n.toNatClampNeg * k.toNatClampNeg), g.2.2.2.1, fun a => if a = g.2.1 then (106, n.toNatClampNeg) else if g.2.1 < a ∧ a ≤ g.2.1 + n.toNatClampNeg then (101, k.toNatClampNeg) else g.2.2.2.2 a) q = zK g q := by
              show (if _ then _ else _) = _
              rw [if_neg e1, if_neg e2]; rfl
            have hq' : (zK g q).1 ≠ 0 := by rw [← hkq]; exact hq
            have hlt := zH.lt ⟨hz, h1, h6⟩ hq'
            have hlt' : q < g.2.1 := hlt
            have e3 : zE (xD X) (g.1, g.2.1 + (1 + n.toNatClampNeg), g.2.2.1 + (n.toNatClampNeg + n.toNatClampNeg * k.toNatClampNeg), g.2.2.2.1, fun a => if a = g.2.1 then (106, n.toNatClampNeg) else if g.2.1 < a ∧ a ≤ g.2.1 + n.toNatClampNeg then (101, k.toNatClampNeg) else g.2.2.2.2 a) (fun a j => if g.2.1 ≤ a ∧ a ≤ g.2.1 + n.toNatClampNeg then 0 else m.1 a j, m.2.1, fun a j => if a = g.2.1 then some (g.2.1 + 1 + j) else m.2.2 a j) q = zE (xD X) g m q := by
              rw [zE_up (m := m) (m' := (fun a j => if g.2.1 ≤ a ∧ a ≤ g.2.1 + n.toNatClampNeg then 0 else m.1 a j, m.2.1, fun a j => if a = g.2.1 then some (g.2.1 + 1 + j) else m.2.2 a j)) (by funext j; show (if _ then _ else _) = _; rw [if_neg (by omega)]; rfl) rfl (by funext j; show (if _ then _ else _) = _; rw [if_neg e1]; rfl)]
              unfold zE
              rw [hkq]
            rw [e3]
            exact (h1 q hq').kept (hold q hlt)
      · have e1 : ¬ q = g.2.1 := fun e => by
          have hq2 : (if q = g.2.1 then (106, n.toNatClampNeg) else if g.2.1 < q ∧ q ≤ g.2.1 + n.toNatClampNeg then (101, k.toNatClampNeg) else g.2.2.2.2 q).1 = 6 := hq
          rw [if_pos e] at hq2; cases hq2
        have e2 : ¬ (g.2.1 < q ∧ q ≤ g.2.1 + n.toNatClampNeg) := fun e => by
          have hq2 : (if q = g.2.1 then (106, n.toNatClampNeg) else if g.2.1 < q ∧ q ≤ g.2.1 + n.toNatClampNeg then (101, k.toNatClampNeg) else g.2.2.2.2 q).1 = 6 := hq
          rw [if_neg e1, if_pos e] at hq2; cases hq2
        have hq2 : (if q = g.2.1 then (106, n.toNatClampNeg) else if g.2.1 < q ∧ q ≤ g.2.1 + n.toNatClampNeg then (101, k.toNatClampNeg) else g.2.2.2.2 q).1 = 6 := hq
        rw [if_neg e1, if_neg e2] at hq2
        have hq3 : (zK g q).1 = 6 := hq2
        have hlt := zH.lt ⟨hz, h1, h6⟩ (a := q) (by omega)
        obtain ⟨cell, g1, g2⟩ := h6 q hq3
        exact ⟨cell, by rw [hold q hlt]; exact g1, g2⟩
      · rw [f1, hTz]; exact Nat.le_trans h2.1 (by rw [hz]; omega)
      · rw [hold q (by rw [← hz]; exact Nat.lt_of_lt_of_le k1 h2.1)]
        exact h2.2.1 q k1 k2
      · show zZ (xg X) + (cells + 1 + n.toNatClampNeg) = g.2.1 + (1 + n.toNatClampNeg)
        have : zZ g = g.2.1 := rfl
        omega
      · show zL (xg X) + (slots + n.toNatClampNeg + n.toNatClampNeg * k.toNatClampNeg) = g.2.2.1 + (n.toNatClampNeg + n.toNatClampNeg * k.toNatClampNeg)
        have : zL g = g.2.2.1 := rfl
        omega
    obtain ⟨t, a1, b1⟩ := k0.2 hF _ locs _ _ ls hRn hL _ rfl X1
    refine ⟨t, step t ?_, b1⟩
    have hTz2 : T.heap.size = zZ g := by rw [hT, hsz]
    rw [hTz2]
    exact a1
  · rw [if_neg hn] at h; cases h
/-- checkcast: the classes that pass -/
def zcst (cs : List Nat) (g : zGd) (a : Option Nat) : Option Unit := match a with
  | none => some ()
  | some a => if cs.any (fun c => (zK g a).1 == c + 1) = true then some () else none
theorem g_cast (cs : List Nat) {nm : String} {index : Nat} {a : Option Nat} {K : Unit → Option α} (q1 : Cond.classLink own index nm ∈ lw_all) (hcs : ∀ c ∈ cs, ∃ q : vw_C, zCl[c]? = some q ∧ c < 100 ∧ (Cond.castable q.1 nm ∈ lw_tbl ∨ q.1 = nm)) (d : decode cc pc = .ok (.checkcast index, 3)) (h : (zcst cs g a).bind K = some fin) (kk : K () = some fin → zG X cc nL own mn fr lo (pc + 3) L (va_rf a :: st) g m) : zG X cc nL own mn fr lo pc L (va_rf a :: st) g m := by
  cases a with
  | none =>
    have k0 := kk h
    exact ⟨k0.1, fun hF H locs cells slots ls hR hL => lv_castN hF.ex hF.by d (k0.2 hF H locs cells slots ls hR hL)⟩
  | some a0 =>
    unfold zcst at h
    dsimp only at h
    by_cases hc : cs.any (fun c => (zK g a0).1 == c + 1) = true
    · rw [if_pos hc] at h
      have k0 := kk h
      refine ⟨k0.1, fun hF H locs cells slots ls hR hL => ?_⟩
      obtain ⟨c, hm, he⟩ := List.any_eq_true.mp hc
      have he : (zK g a0).1 = c + 1 := by simpa using he
      obtain ⟨q, hq, hlt, hw⟩ := hcs c hm
      have hrec := zRn.recv hF hR he hq hlt
      rcases hw with hw | hw
      · exact va_castY hF.ex hF.by hF.ow (hF.ts _ q1) (hF.N.2.2.1 _ _ hw) hrec d (k0.2 hF H locs cells slots ls hR hL)
      · subst hw
        exact va_castS hF.ex hF.by hF.ow (hF.ts _ q1) (hF.K.1 c q hq).2 hrec d (k0.2 hF H locs cells slots ls hR hL)
    · rw [if_neg hc] at h; cases h
/-- a cast of an array to Object[] -/
theorem g_castO {index : Nat} {a : Option Nat} {K : Unit → Option α} (q1 : Cond.classLink own index "[Ljava/lang/Object;" ∈ lw_all) (d : decode cc pc = .ok (.checkcast index, 3)) (h : (zcst [104] g a).bind K = some fin) (kk : K () = some fin → zG X cc nL own mn fr lo (pc + 3) L (va_rf a :: st) g m) : zG X cc nL own mn fr lo pc L (va_rf a :: st) g m := by
  cases a with
  | none =>
    have k0 := kk h
    exact ⟨k0.1, fun hF H locs cells slots ls hR hL => lv_castN hF.ex hF.by d (k0.2 hF H locs cells slots ls hR hL)⟩
  | some a0 =>
    unfold zcst at h
    dsimp only at h
    by_cases hc : ([104] : List Nat).any (fun c => (zK g a0).1 == c + 1) = true
    · rw [if_pos hc] at h
      have k0 := kk h
      have he : (zK g a0).1 = 4 + 101 := by simpa using hc
      refine ⟨k0.1, fun hF H locs cells slots ls hR hL => ?_⟩
      obtain ⟨cell, hc0, ⟨e1, e2, e3⟩, e4⟩ := hR.aq he (by decide)
      intro T hT X'
      obtain ⟨vm', X1, st'⟩ := X'.checkcastYes hF.ex hF.ow (hF.ts _ q1) (by rw [hT]; exact hc0) (zNoSt e4.2) (va_nmO (hF.K.2 4 _ rfl).2 rfl) (by rw [e1]; exact va_asg _ _) (g := F0 (xm X) pc ls (va_rf (some a0) :: st)) rfl rfl (by rw [hF.by]; exact d)
      obtain ⟨t, a1, b1⟩ := k0.2 hF H locs cells slots ls hR hL (T.setVm vm') hT X1
      exact ⟨t, st' t a1, b1⟩
    · rw [if_neg hc] at h; cases h

end
