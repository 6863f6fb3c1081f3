/-! ROWS 7: copies, String fields, class objects, calls on interfaces (printed by gen/rows7.py) -/
set_option maxRecDepth 100000
theorem zNn (z : Int32) (hz : ¬ z < 0) : z.toInt = (z.toNatClampNeg : Int) := by
  have hz0 : (0 : Int) ≤ z.toInt := by
    have := Int32.not_lt.mp hz
    simpa using Int32.le_iff_toInt_le.mp this
  show z.toInt = ((z.toInt.toNat : Nat) : Int)
  omega
theorem zStorePairs (at_ : Nat) (V : Nat → Value) : ∀ (k : Nat) (vs : List Value) (ce : Cell), (∀ i, i < vs.length → vs[i]? = some (V (k + i))) → (ce.storePairs at_ (vs.zipIdx k)).cls = ce.cls ∧ (ce.storePairs at_ (vs.zipIdx k)).slots.size = ce.slots.size ∧ (ce.storePairs at_ (vs.zipIdx k)).vm = ce.vm ∧ ∀ j, j < ce.slots.size → (ce.storePairs at_ (vs.zipIdx k)).slots[j]? = if at_ + k ≤ j ∧ j < at_ + k + vs.length then some (V (j - at_)) else ce.slots[j]?
  | k, [], ce, _ => ⟨rfl, rfl, rfl, fun j hj => by rw [if_neg (by simp only [List.length_nil]; omega)]; rfl⟩
  | k, v :: vs, ce, h => by
    have ih := zStorePairs at_ V (k + 1) vs (ce.setSlot (at_ + k) v) (fun i hi => by
      have := h (i + 1) (by simp; omega)
      rw [List.getElem?_cons_succ] at this
      rw [this, show k + (i + 1) = k + 1 + i by omega])
    have hv : v = V k := by
      have := h 0 (by simp)
      rw [List.getElem?_cons_zero] at this
      simpa using this
    have hsz : (ce.setSlot (at_ + k) v).slots.size = ce.slots.size := Array.size_setIfInBounds ..
    refine ⟨ih.1, ih.2.1.trans hsz, ih.2.2.1, fun j hj => ?_⟩
    refine (ih.2.2.2 j (by rw [hsz]; exact hj)).trans ?_
    have hs : (ce.setSlot (at_ + k) v).slots[j]? = if at_ + k = j then some v else ce.slots[j]? := by
      show (ce.slots.setIfInBounds (at_ + k) v)[j]? = _
      rw [Array.getElem?_setIfInBounds]
      by_cases e : at_ + k = j
      · rw [if_pos e, if_pos e, if_pos (by omega)]
      · rw [if_neg e, if_neg e]
    rw [hs, List.length_cons]
    by_cases c1 : at_ + (k + 1) ≤ j ∧ j < at_ + (k + 1) + vs.length
    · rw [if_pos c1, if_pos (by omega)]
    · rw [if_neg c1]
      by_cases e : at_ + k = j
      · rw [if_pos e, if_pos (by omega), hv, show j - at_ = k by omega]
      · rw [if_neg e, if_neg (by omega)]
theorem zCopied {cs cd : Cell} {V V' : Nat → Value} {n0 n1 : Nat} {sp dp n : Int32} (h0 : ∀ j, j < n0 → cs.slots[j]? = some (V j)) (l0 : sp.toNatClampNeg + n.toNatClampNeg ≤ n0) (hs1 : n1 ≤ cd.slots.size) (h1 : ∀ j, j < n1 → cd.slots[j]? = some (V' j)) (l1 : dp.toNatClampNeg + n.toNatClampNeg ≤ n1) : (copied cs cd sp dp n).cls = cd.cls ∧ (copied cs cd sp dp n).slots.size = cd.slots.size ∧ (copied cs cd sp dp n).vm = cd.vm ∧ ∀ j, j < n1 → (copied cs cd sp dp n).slots[j]? = some (if dp.toNatClampNeg ≤ j ∧ j < dp.toNatClampNeg + n.toNatClampNeg then V (sp.toNatClampNeg + (j - dp.toNatClampNeg)) else V' j) := by
  have hst : cs.stretch sp.toNatClampNeg n.toNatClampNeg = (List.range n.toNatClampNeg).map (fun i => V (sp.toNatClampNeg + i)) := by
    unfold Cell.stretch
    apply List.map_congr_left
    intro i hi
    have hi := List.mem_range.mp hi
    rw [Array.getD_eq_getD_getElem?, h0 _ (by omega)]
    rfl
  have k := zStorePairs dp.toNatClampNeg (fun i => V (sp.toNatClampNeg + i)) 0 (cs.stretch sp.toNatClampNeg n.toNatClampNeg) cd (fun i hi => by
    rw [hst] at hi ⊢
    rw [List.length_map, List.length_range] at hi
    rw [List.getElem?_map, List.getElem?_range hi, Nat.zero_add]
    rfl)
  have hlen : (cs.stretch sp.toNatClampNeg n.toNatClampNeg).length = n.toNatClampNeg := by rw [hst, List.length_map, List.length_range]
  refine ⟨k.1, k.2.1, k.2.2.1, fun j hj => ?_⟩
  refine (k.2.2.2 j (Nat.lt_of_lt_of_le hj hs1)).trans ?_
  rw [hlen, Nat.add_zero]
  by_cases c : dp.toNatClampNeg ≤ j ∧ j < dp.toNatClampNeg + n.toNatClampNeg
  · rw [if_pos c, if_pos c]
  · rw [if_neg c, if_neg c]
    exact h1 j hj
def zcpi (g : zGd) (m : zMm) (a : Option Nat) (sp : Int32) (b : Option Nat) (dp n : Int32) : Option zMm := a.bind fun a => b.bind fun b => if ((zK g a).1 = 101 ∧ (zK g b).1 = 101) ∧ (zB g ≤ b ∧ ¬ sp < 0 ∧ ¬ dp < 0 ∧ ¬ n < 0) ∧ sp.toNatClampNeg + n.toNatClampNeg ≤ (zK g a).2 ∧ dp.toNatClampNeg + n.toNatClampNeg ≤ (zK g b).2 then some (zrow m.1 b (va_cpy (zI m a) (zI m b) sp.toNatClampNeg dp.toNatClampNeg n.toNatClampNeg), m.2.1, m.2.2) else none
def zcpr (t : Nat) (g : zGd) (m : zMm) (a : Option Nat) (sp : Int32) (b : Option Nat) (dp n : Int32) : Option zMm := a.bind fun a => b.bind fun b => if ((zK g a).1 = t + 101 ∧ (zK g b).1 = t + 101) ∧ ((zB g ≤ b ∧ ¬ sp < 0 ∧ ¬ dp < 0 ∧ ¬ n < 0) ∧ sp.toNatClampNeg + n.toNatClampNeg ≤ (zK g a).2 ∧ dp.toNatClampNeg + n.toNatClampNeg ≤ (zK g b).2) ∧ (List.range n.toNatClampNeg).all (fun i => match zR m a (sp.toNatClampNeg + i) with | none => true | some y => zAsOk t (zK g y).1) = true then some (m.1, m.2.1, zrow m.2.2 b (va_cpy (zR m a) (zR m b) sp.toNatClampNeg dp.toNatClampNeg n.toNatClampNeg)) else none
section
variable {X : zCx} {cc : ByteArray} {nL pc fr lo : Nat} {own mn : String} {L : List (Nat × Value)} {st : List Value} {g : zGd} {m : zMm} {α : Type} {fin : α}
theorem zRn.putL {H H1 : Heap} {locs L1 : List Loc} {cells slots : Nat} {m' : zMm} {a : Nat} (hR : zRn X g m H locs cells slots) (hb : zB g ≤ a) (hz : H1.size = H.size) (oq : ∀ q : Nat, q ≠ a → H1[q]? = H[q]?) (ha : zAt (xD X) (a, zE (xD X) g m' a) H1) (ho : ∀ q : Nat, q ≠ a → zE (xD X) g m' q = zE (xD X) g m q) (hm : (zK g a).1 = 6 → ∃ cell : Cell, H1[a]? = some cell ∧ (cell.monitor.owner = none ∧ cell.monitor.count = 0) ∧ cell.slots.size = 8) (hL : ∀ q ∈ L1, q.base = a) : zRn X g m' H1 (locs ++ L1) cells slots := by
  have hB : zB (xg X) ≤ a := by rw [← hR.2.2.2.2.1]; exact hb
  refine ⟨hR.1.set hz oq ha ho hm, ⟨by rw [hz]; exact hR.2.1.1, fun q g1 g2 => ?_, fun q hq => ?_⟩, hR.2.2⟩
  · rw [oq q (fun e => g2 (by rw [e]; exact hB))]
    exact hR.2.1.2.1 q g1 g2
  · rcases List.mem_append.mp hq with h | h
    · exact hR.2.1.2.2 q h
    · rw [hL q h]; exact hB

theorem g_cpyi {index : Nat} {a b : Option Nat} {sp dp n : Int32} {cn : Nat} {K : zMm → Option α} (q1 : Cond.methodLink own index arraycopyName ∈ lw_all) (q2 : Cond.native arraycopyName ∈ lw_all) (q3 : Cond.static arraycopyName ∈ lw_all) (q4 : Cond.initialized "java/lang/System" ∈ lw_all) (hcat : zCat st cn) (hc8 : cn ≤ 8) (hroom : 1 ≤ fr ∧ 40 ≤ lo) (d : decode cc pc = .ok (.invokestatic index, 3)) (h : (zcpi g m a sp b dp n).bind K = some fin) (kk : ∀ m', K m' = some fin → zG X cc nL own mn fr lo (pc + 3) L st g m') : zG X cc nL own mn fr lo pc L (.int n :: .int dp :: va_rf b :: .int sp :: va_rf a :: st) g m := by
  cases a with
  | none => cases h
  | some a0 =>
  cases b with
  | none => cases h
  | some b0 =>
  unfold zcpi at h
  rw [Option.bind_some, Option.bind_some] at h
  obtain ⟨h1, h2⟩ : (((zK g a0).1 = 101 ∧ (zK g b0).1 = 101) ∧ _) ∧ K (zrow m.1 b0 (va_cpy (zI m a0) (zI m b0) sp.toNatClampNeg dp.toNatClampNeg n.toNatClampNeg), m.2.1, m.2.2) = some fin := by
    split at h
    · rename_i hc
      exact ⟨hc, h⟩
    · cases h
  refine ⟨(kk _ h2).1, fun hF H locs cells slots ls hR hL => ?_⟩
  obtain ⟨cs, hc0, ⟨p1, p2, p3⟩, p4⟩ := hR.ai (t := 0) h1.1.1 (by decide)
  obtain ⟨cd, hc1, ⟨r1', r2', r3'⟩, r4'⟩ := hR.ai (t := 0) h1.1.2 (by decide)
  obtain ⟨hge, s1, s2, s3⟩ := h1.2.1
  obtain ⟨l1, l2⟩ := h1.2.2
  obtain ⟨-, k0, hk0, cm0, hkk0⟩ := (hF.K.2 0 _ rfl).1 (zK g a0).2 (fun j => Value.int (zI m a0 j))
  obtain ⟨-, k1, hk1, cm1, hkk1⟩ := (hF.K.2 0 _ rfl).1 (zK g b0).2 (fun j => Value.int (zI m b0 j))
  intro T hT X'
  obtain ⟨vm', X1, step⟩ := X'.arraycopy hF.ex hF.ow (hF.ts _ q1) (hF.ts _ q2) (hF.ts _ q3) (hF.ts _ q4) (src := a0) (dst := b0) (cs := cs) (cd := cd) (srcPos := sp) (destPos := dp) (n := n) (by rw [hT]; exact hc0) (by rw [hT]; exact hc1)
    p4.2 r4'.2 p4.1 r4'.1 (by rw [p1]; exact hk0) (by rw [r1']; exact hk1) hkk0 hkk1 rfl s1 s2 s3
    (by rw [zNn sp s1, zNn n s3]; have := p2.1; omega)
    (by rw [zNn dp s2, zNn n s3]; have := r2'.1; omega)
    (fun vm₁ hal i hi => by
      have e : cs.slots.getD (sp.toNatClampNeg + i) .null = Value.int (zI m a0 (sp.toNatClampNeg + i)) := by
        rw [Array.getD_eq_getD_getElem?, p3 _ (by omega)]
        rfl
      rw [e]
      exact ⟨rfl, trivial⟩)
    (g := F0 (xm X) pc ls (.int n :: .int dp :: va_rf (some b0) :: .int sp :: va_rf (some a0) :: st)) rfl (by rw [hF.ml]; exact hL.1) (rest := st) rfl (by rw [hF.by]; exact d) (by rw [hF.ro.1]; exact hroom.1) (by
      rw [hF.ro.2]
      unfold zCat at hcat
      rw [hcat]
      have hw : nativeFrameWords "java/lang/System" "arraycopy" 5 + 11 ≤ 32 := by decide
      show 2 * 0 + cn + _ ≤ lo
      omega)
  obtain ⟨k1', k2', k3', k4'⟩ := zCopied (V := fun j => Value.int (zI m a0 j)) (V' := fun j => Value.int (zI m b0 j)) (sp := sp) (dp := dp) (n := n) p3 l1 r2'.1 r3' l2
  have hl : b0 < H.size := (Array.getElem?_eq_some_iff.mp hc1).1
  have hheap : ((T.setVm vm').setCell b0 (copied cs cd sp dp n)).heap = H.setIfInBounds b0 (copied cs cd sp dp n) := by rw [← hT]; rfl
  have hrow : zI (zrow m.1 b0 (va_cpy (zI m a0) (zI m b0) sp.toNatClampNeg dp.toNatClampNeg n.toNatClampNeg), m.2.1, m.2.2) b0 = va_cpy (zI m a0) (zI m b0) sp.toNatClampNeg dp.toNatClampNeg n.toNatClampNeg := by
    funext j
    show (if b0 = b0 then _ else _) = _
    rw [if_pos rfl]
  have oq : ∀ q : Nat, q ≠ b0 → (H.setIfInBounds b0 (copied cs cd sp dp n))[q]? = H[q]? := fun q hq => by simp [Array.getElem?_setIfInBounds, Ne.symm hq]
  obtain ⟨t1, a1, b1⟩ := (kk _ h2).2 hF _ _ cells slots ls (hR.putL hge (H1 := H.setIfInBounds b0 (copied cs cd sp dp n)) (by simp) oq (by
      rw [zE_i (t := 0) (zK1 h1.1.2) (by decide)]
      refine ⟨copied cs cd sp dp n, by simp [Array.getElem?_setIfInBounds, hl], ⟨k1'.trans r1', by rw [k2']; exact r2', fun j hj => ?_⟩, by rw [k3']; exact r4'⟩
      rw [k4' j hj]
      show _ = some (Value.int (zI (zrow m.1 b0 (va_cpy (zI m a0) (zI m b0) sp.toNatClampNeg dp.toNatClampNeg n.toNatClampNeg), m.2.1, m.2.2) b0 j))
      rw [hrow]
      unfold va_cpy
      by_cases hj2 : dp.toNatClampNeg ≤ j ∧ j < dp.toNatClampNeg + n.toNatClampNeg
      · rw [if_pos hj2, if_pos hj2]
      · rw [if_neg hj2, if_neg hj2])
    (fun q hq => zE_up (by funext j; show (if q = b0 then _ else _) = _; rw [if_neg hq]; rfl) rfl rfl) (fun h6 => by rw [h1.1.2] at h6; cases h6) (L1 := _) (fun q hq => by
      obtain ⟨z, -, hz⟩ := List.mem_map.mp hq
      rw [← hz])) hL _ hheap X1
  exact ⟨t1, step t1 a1, b1⟩
theorem g_cpyr (t : Nat) {E : String} (ht : zTy8[t]? = some (.object E)) (h4 : 4 ≤ t) {index : Nat} {a b : Option Nat} {sp dp n : Int32} {cn : Nat} {K : zMm → Option α} (q1 : Cond.methodLink own index arraycopyName ∈ lw_all) (q2 : Cond.native arraycopyName ∈ lw_all) (q3 : Cond.static arraycopyName ∈ lw_all) (q4 : Cond.initialized "java/lang/System" ∈ lw_all) (hcat : zCat st cn) (hc8 : cn ≤ 8) (hroom : 1 ≤ fr ∧ 40 ≤ lo) (d : decode cc pc = .ok (.invokestatic index, 3)) (h : (zcpr t g m a sp b dp n).bind K = some fin) (kk : ∀ m', K m' = some fin → zG X cc nL own mn fr lo (pc + 3) L st g m') : zG X cc nL own mn fr lo pc L (.int n :: .int dp :: va_rf b :: .int sp :: va_rf a :: st) g m := by
  cases a with
  | none => cases h
  | some a0 =>
  cases b with
  | none => cases h
  | some b0 =>
  unfold zcpr at h
  rw [Option.bind_some, Option.bind_some] at h
  obtain ⟨h1, h2⟩ : (((zK g a0).1 = t + 101 ∧ (zK g b0).1 = t + 101) ∧ _) ∧ K (m.1, m.2.1, zrow m.2.2 b0 (va_cpy (zR m a0) (zR m b0) sp.toNatClampNeg dp.toNatClampNeg n.toNatClampNeg)) = some fin := by
    split at h
    · rename_i hc
      exact ⟨hc, h⟩
    · cases h
  refine ⟨(kk _ h2).1, fun hF H locs cells slots ls hR hL => ?_⟩
  obtain ⟨cs, hc0, ⟨p1, p2, p3⟩, p4⟩ := hR.aq h1.1.1 h4
  obtain ⟨cd, hc1, ⟨r1', r2', r3'⟩, r4'⟩ := hR.aq h1.1.2 h4
  obtain ⟨hge, s1, s2, s3⟩ := h1.2.1.1
  obtain ⟨l1, l2⟩ := h1.2.1.2
  obtain ⟨-, k0, hk0, cm0, hkk0⟩ := (hF.K.2 t _ (zTys_at ht)).1 (zK g a0).2 (fun j => va_rf (zR m a0 j))
  obtain ⟨-, k1, hk1, cm1, hkk1⟩ := (hF.K.2 t _ (zTys_at ht)).1 (zK g b0).2 (fun j => va_rf (zR m b0 j))
  intro T hT X'
  obtain ⟨vm', X1, step⟩ := X'.arraycopy hF.ex hF.ow (hF.ts _ q1) (hF.ts _ q2) (hF.ts _ q3) (hF.ts _ q4) (src := a0) (dst := b0) (cs := cs) (cd := cd) (srcPos := sp) (destPos := dp) (n := n) (by rw [hT]; exact hc0) (by rw [hT]; exact hc1)
    p4.2 r4'.2 p4.1 r4'.1 (by rw [p1]; exact hk0) (by rw [r1']; exact hk1) hkk0 hkk1 rfl s1 s2 s3
    (by rw [zNn sp s1, zNn n s3]; have := p2.1; omega)
    (by rw [zNn dp s2, zNn n s3]; have := r2'.1; omega)
    (fun vm₁ hal i hi => by
      have e : cs.slots.getD (sp.toNatClampNeg + i) .null = va_rf (zR m a0 (sp.toNatClampNeg + i)) := by
        rw [Array.getD_eq_getD_getElem?, p3 _ (by omega)]
        rfl
      rw [e]
      cases hy : zR m a0 (sp.toNatClampNeg + i) with
      | none => exact ⟨rfl, trivial⟩
      | some y =>
        have hok : zAsOk t (zK g y).1 = true := by
          have h9 := List.all_eq_true.mp h1.2.2 i (List.mem_range.mpr hi)
          rw [hy] at h9
          exact h9
        obtain ⟨cellV, g1, g2, ⟨kC, hkC⟩, hasg⟩ := zAnyT hF hR ht hok
        obtain ⟨kA, comp, r1, r2, r3, -⟩ := (hF.K.2 t _ (zTys_at ht)).2
        cases hk1.symm.trans r1
        cases hkk1.symm.trans r2
        obtain ⟨kE, hkE, -⟩ := Vm.findClass_spec r3
        obtain ⟨kC', hkC', -⟩ := hal.2.2 _ _ hkC
        obtain ⟨kE', hkE', -⟩ := hal.2.2 _ _ hkE
        refine ⟨rfl, cellV, (show T.heap[y]? = some cellV by rw [hT]; exact g1), (fun q h => by rw [h] at g2; cases g2), ⟨kC', hkC'⟩, ?_, ?_⟩
        · exact ⟨kE', hkE'⟩
        · show vm₁.assignable _ _ = true
          rw [hal.assignable]
          exact hasg _ r3)
    (g := F0 (xm X) pc ls (.int n :: .int dp :: va_rf (some b0) :: .int sp :: va_rf (some a0) :: st)) rfl (by rw [hF.ml]; exact hL.1) (rest := st) rfl (by rw [hF.by]; exact d) (by rw [hF.ro.1]; exact hroom.1) (by
      rw [hF.ro.2]
      unfold zCat at hcat
      rw [hcat]
      have hw : nativeFrameWords "java/lang/System" "arraycopy" 5 + 11 ≤ 32 := by decide
      show 2 * 0 + cn + _ ≤ lo
      omega)
  obtain ⟨k1', k2', k3', k4'⟩ := zCopied (V := fun j => va_rf (zR m a0 j)) (V' := fun j => va_rf (zR m b0 j)) (sp := sp) (dp := dp) (n := n) p3 l1 r2'.1 r3' l2
  have hl : b0 < H.size := (Array.getElem?_eq_some_iff.mp hc1).1
  have hheap : ((T.setVm vm').setCell b0 (copied cs cd sp dp n)).heap = H.setIfInBounds b0 (copied cs cd sp dp n) := by rw [← hT]; rfl
  have hrow : zR (m.1, m.2.1, zrow m.2.2 b0 (va_cpy (zR m a0) (zR m b0) sp.toNatClampNeg dp.toNatClampNeg n.toNatClampNeg)) b0 = va_cpy (zR m a0) (zR m b0) sp.toNatClampNeg dp.toNatClampNeg n.toNatClampNeg := by
    funext j
    show (if b0 = b0 then _ else _) = _
    rw [if_pos rfl]
  have oq : ∀ q : Nat, q ≠ b0 → (H.setIfInBounds b0 (copied cs cd sp dp n))[q]? = H[q]? := fun q hq => by simp [Array.getElem?_setIfInBounds, Ne.symm hq]
  obtain ⟨t1, a1, b1⟩ := (kk _ h2).2 hF _ _ cells slots ls (hR.putL hge (H1 := H.setIfInBounds b0 (copied cs cd sp dp n)) (by simp) oq (by
      rw [zE_q (zK1 h1.1.2) h4]
      refine ⟨copied cs cd sp dp n, by simp [Array.getElem?_setIfInBounds, hl], ⟨k1'.trans r1', by rw [k2']; exact r2', fun j hj => ?_⟩, by rw [k3']; exact r4'⟩
      rw [k4' j hj]
      show _ = some (va_rf (zR (m.1, m.2.1, zrow m.2.2 b0 (va_cpy (zR m a0) (zR m b0) sp.toNatClampNeg dp.toNatClampNeg n.toNatClampNeg)) b0 j))
      rw [hrow]
      unfold va_cpy
      by_cases hj2 : dp.toNatClampNeg ≤ j ∧ j < dp.toNatClampNeg + n.toNatClampNeg
      · rw [if_pos hj2, if_pos hj2]
      · rw [if_neg hj2, if_neg hj2])
    (fun q hq => zE_up rfl rfl (by funext j; show (if q = b0 then _ else _) = _; rw [if_neg hq]; rfl)) (fun h6 => by rw [h1.1.2] at h6; omega) (L1 := _) (fun q hq => by
      obtain ⟨z, -, hz⟩ := List.mem_map.mp hq
      rw [← hz])) hL _ hheap X1
  exact ⟨t1, step t1 a1, b1⟩
theorem g_strf (k : Nat) {index : Nat} {a : Option Nat} {v : Value} (hk : k < 2) (q : Cond.fieldLink own index "java/lang/String" (zTS k).2.1 (zTS k).2.2.1 ∈ lw_all) (d : decode cc pc = .ok (.getfield index, 3)) {a0 : Nat} (ha : a = some a0) (h1 : (zK g a0).1 = 19) (hv : zV 18 m a0 k = v) (kk : zG X cc nL own mn fr lo (pc + 3) L (v :: st) g m) : zG X cc nL own mn fr lo pc L (va_rf a :: st) g m := by
  subst ha
  refine ⟨kk.1, fun hF H locs cells slots ls hR hL => ?_⟩
  obtain ⟨r, e1, cell, c1, c2, c3, c4⟩ := hR.at (ci := 18) h1 (by decide) 0 _ rfl
  have hr : r = (RJ3, zTS, 2) := Option.some.inj (e1.symm.trans rfl)
  subst hr
  obtain ⟨cf, kf, fi, f, f1, f2, f3⟩ := hF.en.2.2.1.1 k hk
  have h5 : cell.slots[f.slot]? = some v := by
    rw [f3, c4 k hk]
    show some ((zFs 18 m a0).getD k .null) = _
    rw [List.getD_eq_getElem?_getD, zFs_at m a0 (show k < zN 18 from hk), hv]
    rfl
  have hown : (zTS k).1 = "java/lang/String" := by
    match k, hk with
    | 0, _ => rfl
    | 1, _ => rfl
  rw [hown] at f1
  exact W.getf hF.ex hF.by hF.ow (hF.ts _ q) f1 f2 c1 (by rw [c3]; exact fun h => by cases h) (v := v) h5 rfl rfl d (kk.2 hF H locs cells slots ls hR hL)
theorem g_strV {index : Nat} {a : Option Nat} {K : Option Nat → Option α} (q : Cond.fieldLink own index "java/lang/String" "value" "[B" ∈ lw_all) (d : decode cc pc = .ok (.getfield index, 3)) (h : (zgr g m 18 0 a).bind K = some fin) (kk : ∀ v, K v = some fin → zG X cc nL own mn fr lo (pc + 3) L (va_rf v :: st) g m) : zG X cc nL own mn fr lo pc L (va_rf a :: st) g m := by
  obtain ⟨a0, e, h1, h2⟩ := zop h
  exact g_strf 0 (by decide) q d e h1 rfl (kk _ h2)
theorem g_strC {index : Nat} {a : Option Nat} {K : Int32 → Option α} (q : Cond.fieldLink own index "java/lang/String" "coder" "B" ∈ lw_all) (d : decode cc pc = .ok (.getfield index, 3)) (h : (zgi g m 18 1 a).bind K = some fin) (kk : ∀ v, K v = some fin → zG X cc nL own mn fr lo (pc + 3) L (.int v :: st) g m) : zG X cc nL own mn fr lo pc L (va_rf a :: st) g m := by
  obtain ⟨a0, e, h1, h2⟩ := zop h
  exact g_strf 1 (by decide) q d e h1 rfl (kk _ h2)
/-- the class object of Object[] -/
theorem g_mir {index : Nat} (q : Cond.classLink own index "[Ljava/lang/Object;" ∈ lw_all) (d : decode cc pc = .ok (.ldc index, 2)) (kk : zG X cc nL own mn fr lo (pc + 2) L (va_rf (zS g 20) :: st) g m) : zG X cc nL own mn fr lo pc L st g m := by
  refine ⟨kk.1, fun hF H locs cells slots ls hR hL => ?_⟩
  obtain ⟨mi, h7, h8⟩ := hF.en.2.2.2.2.2.2.1
  have hs : zS g = zS (xg X) := hR.2.2.2.2.2.1
  have k2 := kk.2 hF H locs cells slots ls hR hL
  rw [hs, h7] at k2
  exact va_ldcM hF.ex hF.by hF.ow (hF.ts _ q) h8 d k2
def zgc (g : zGd) (a : Option Nat) : Option (Option Nat) := a.bind fun a => if (zK g a).1 = 105 then some (zS g 20) else none
theorem g_getC {index : Nat} {a : Option Nat} {cn : Nat} {K : Option Nat → Option α} (q1 : Cond.methodLink own index ⟨"java/lang/Object", "getClass", "()Ljava/lang/Class;"⟩ ∈ lw_all) (hcat : zCat st cn) (hc8 : cn ≤ 8) (hroom : 1 ≤ fr ∧ 22 ≤ lo) (d : decode cc pc = .ok (.invokevirtual index, 3)) (h : (zgc g a).bind K = some fin) (kk : ∀ v, K v = some fin → zG X cc nL own mn fr lo (pc + 3) L (va_rf v :: st) g m) : zG X cc nL own mn fr lo pc L (va_rf a :: st) g m := by
  obtain ⟨a0, rfl, h1, h2⟩ := zop h
  refine ⟨(kk _ h2).1, fun hF H locs cells slots ls hR hL => ?_⟩
  obtain ⟨mi, h7, h8⟩ := hF.en.2.2.2.2.2.2.1
  have hs : zS g = zS (xg X) := hR.2.2.2.2.2.1
  have k2 := (kk _ h2).2 hF H locs cells slots ls hR hL
  rw [hs, h7] at k2
  obtain ⟨cell, hP, ⟨e1, e2, e3⟩, e4⟩ := hR.aq (t := 4) h1 (by decide)
  refine va_getC hF.ex hF.by (by rw [hF.ml]; exact hL.1.symm) hF.ow (hF.ts _ q1) (va_Nw.use rfl (hF.N.2.2.2.1 _ q2135)) (hF.ts _ q2134) (hF.ts _ q665) (hF.ts _ q686) h8 ⟨_, hP, zNoSt e4.2, by rw [e1]; exact va_nmO (hF.K.2 4 _ rfl).2 rfl⟩ (by rw [hF.ro.1]; exact hroom.1) (by rw [hF.ro.2]; unfold zCat at hcat; rw [hcat]; omega) d k2
/-- the classes behind the two interfaces -/
def zIy : Nat → MethodName
  | 6 => yX6_of
  | 7 => yX7_of
  | 8 => yX8_is
  | 9 => yX9_is
  | 10 => yX10_is
  | 11 => yX11_of
  | 12 => yX12_of
  | 13 => yX13_of
  | 14 => yX14_of
  | _ => yX15_of
def zIc : Nat → ByteArray
  | 6 => cX6_of
  | 7 => cX7_of
  | 8 => cX8_is
  | 9 => cX9_is
  | 10 => cX10_is
  | 11 => cX11_of
  | 12 => cX12_of
  | 13 => cX13_of
  | 14 => cX14_of
  | _ => cX15_of
def zIn : Nat → Nat
  | 6 => 10
  | 7 => 2
  | 8 => 2
  | 9 => 4
  | 10 => 4
  | 11 => 2
  | 12 => 2
  | 13 => 4
  | 14 => 4
  | _ => 2
def zIr : Nat → String
  | 6 => RX6
  | 7 => RX7
  | 8 => RX8
  | 9 => RX9
  | 10 => RX10
  | 11 => RX11
  | 12 => RX12
  | 13 => RX13
  | 14 => RX14
  | _ => RX15
def zSumL : List Nat := [6, 7, 11, 12, 13, 14, 15]
def zAskL : List Nat := [8, 9, 10]
theorem zIw {own : String} {index : Nat} {C : String} {x y : MethodName} {b : ByteArray} {n : Nat} {r : Option FieldType} (h1 : Cond.methodLink own index x ∈ lw_all) (h2 : Cond.selects C x y ∈ lw_all) (h3 : Cond.instanceMethod y ∈ lw_all) (h4 : Cond.initialized y.cls ∈ lw_all) (h5 : Cond.code y b n r ∈ lw_all) : GoodIn lw_all (va_wsF own index C x y (ws_ y b n r)) := by
  refine lw_app ?_ (lw_meth h5)
  intro w hw
  simp only [List.mem_cons, List.not_mem_nil, or_false] at hw
  rcases hw with e | e | e | e
  · rw [e]; exact h1
  · rw [e]; exact h2
  · rw [e]; exact h3
  · rw [e]; exact h4
theorem zISw {own : String} {index : Nat} (h1 : Cond.methodLink own index zySum ∈ lw_all) : ∀ ci ∈ ([6, 7, 11, 12, 13, 14, 15] : List Nat), GoodIn lw_all (va_wsF own index (zIr ci) zySum (zIy ci) (ws_ (zIy ci) (zIc ci) (zIn ci) (some .long))) := by
  intro ci hc
  simp only [List.mem_cons, List.not_mem_nil, or_false] at hc
  rcases hc with e | e | e | e | e | e | e <;> subst e
  · exact zIw h1 q981 q983 q140 q985
  · exact zIw h1 q1032 q1034 q142 q1036
  · exact zIw h1 q989 q991 q149 q993
  · exact zIw h1 q1026 q1028 q150 q1030
  · exact zIw h1 q973 q975 q151 q977
  · exact zIw h1 q1038 q1040 q152 q1042
  · exact zIw h1 q1018 q1020 q153 q1022
theorem zISc : ∀ ci ∈ ([6, 7, 11, 12, 13, 14, 15] : List Nat), (∃ q : vw_C, zCl[ci]? = some q ∧ q.1 = zIr ci) ∧ ci < 100 ∧ (zIr ci, zySum, zIy ci) ∈ zFw := by
  intro ci hc
  simp only [List.mem_cons, List.not_mem_nil, or_false] at hc
  rcases hc with e | e | e | e | e | e | e <;> subst e
  · exact ⟨⟨_, rfl, rfl⟩, by decide, List.mem_of_getElem? (i := 0) rfl⟩
  · exact ⟨⟨_, rfl, rfl⟩, by decide, List.mem_of_getElem? (i := 1) rfl⟩
  · exact ⟨⟨_, rfl, rfl⟩, by decide, List.mem_of_getElem? (i := 2) rfl⟩
  · exact ⟨⟨_, rfl, rfl⟩, by decide, List.mem_of_getElem? (i := 3) rfl⟩
  · exact ⟨⟨_, rfl, rfl⟩, by decide, List.mem_of_getElem? (i := 4) rfl⟩
  · exact ⟨⟨_, rfl, rfl⟩, by decide, List.mem_of_getElem? (i := 5) rfl⟩
  · exact ⟨⟨_, rfl, rfl⟩, by decide, List.mem_of_getElem? (i := 6) rfl⟩
/-- what a call on the interface asks of what answers it -/
def zRcS (l : Launch) (g : zGd) (m : zMm) (fr lo : Nat) (rec : Option Nat → Option Nat → Option Int64) : Prop := ∀ (a b : Option Nat) (r : Int64), rec a b = some r → ∃ a0 ci : Nat, a = some a0 ∧ ci ∈ ([6, 7, 11, 12, 13, 14, 15] : List Nat) ∧ (zK g a0).1 = ci + 1 ∧ 11 + zIn ci ≤ 40 ∧ zCT l (zIy ci) (zIc ci) (zIn ci) (some .long) fr lo g m [va_rf a, va_rf b] (some (.long r)) g m
theorem g_cFS {rec : Option Nat → Option Nat → Option Int64} {fr' lo' index count cn : Nat} {a b : Option Nat} {rest : List Value} {K : Int64 → Option α} (hr : zRcS (xl X) g m fr' lo' rec) (q1 : Cond.methodLink own index zySum ∈ lw_all) (hroom : fr' + 1 ≤ fr ∧ 48 + lo' ≤ lo) (hcat : zCat rest cn) (hc8 : cn ≤ 8) (d : decode cc pc = .ok (.invokeinterface index count, 5)) (h : (rec a b).bind K = some fin) (kk : ∀ r, K r = some fin → zG X cc nL own mn fr lo (pc + 5) L (.long r :: rest) g m) : zG X cc nL own mn fr lo pc L (va_rf b :: va_rf a :: rest) g m := by
  obtain ⟨r, e0, h2⟩ := zB_e h
  have k0 := kk r h2
  obtain ⟨a0, ci, rfl, hci, hk, hn40, hct⟩ := hr a b r e0
  refine ⟨hct.1.tr k0.1, fun hF H locs cells slots ls hR hL => ?_⟩
  have hroom2 := zRn.room hF hR k0.1 (k := zZ g - zZ g) (n := zL g - zL g) (by omega) (by omega)
  obtain ⟨⟨q, hq, hq1⟩, hlt, hfw⟩ := zISc ci hci
  have hat := (hF.K.1 ci q hq).2
  rw [hq1] at hat
  have hrecv := zRn.recv hF hR hk hq hlt
  rw [hq1] at hrecv
  exact zRun5 (n := 0) hR hct.1 (va_runF (As := [va_rf b]) (rest := rest) (b := a0) hat ⟨hF.ex, hF.by, hF.ml, hF.ow, hF.ts⟩ (hct.2 hF.fl (xD X)) (va_cwF 1 hF.ts (zISw q1 ci hci) rfl rfl rfl (hF.N.2.2.2.2.2 _ hfw) ⟨by decide, by decide, by decide +kernel⟩ ⟨by rw [hF.ro.1]; exact hroom.1, by rw [hF.ro.2]; show 8 + (zIn ci + 11) + lo' ≤ lo; omega⟩) ⟨zSt.blind, hrecv, fun U hU hW => ⟨rfl, zSt.call hF hR hU hW⟩⟩ rfl rfl hL.1 rfl (hcat.room hc8) d hroom2) (fun H1 locs1 c1 s1 hR1 => k0.2 hF H1 locs1 c1 s1 ls hR1 hL)
theorem zIAw {own : String} {index : Nat} (h1 : Cond.methodLink own index zyAsk ∈ lw_all) : ∀ ci ∈ ([8, 9, 10] : List Nat), GoodIn lw_all (va_wsF own index (zIr ci) zyAsk (zIy ci) (ws_ (zIy ci) (zIc ci) (zIn ci) (some .boolean))) := by
  intro ci hc
  simp only [List.mem_cons, List.not_mem_nil, or_false] at hc
  rcases hc with e | e | e <;> subst e
  · exact zIw h1 q1047 q1049 q143 q1051
  · exact zIw h1 q1010 q1012 q144 q1014
  · exact zIw h1 q999 q1001 q148 q1003
theorem zIAc : ∀ ci ∈ ([8, 9, 10] : List Nat), (∃ q : vw_C, zCl[ci]? = some q ∧ q.1 = zIr ci) ∧ ci < 100 ∧ (zIr ci, zyAsk, zIy ci) ∈ zFw := by
  intro ci hc
  simp only [List.mem_cons, List.not_mem_nil, or_false] at hc
  rcases hc with e | e | e <;> subst e
  · exact ⟨⟨_, rfl, rfl⟩, by decide, List.mem_of_getElem? (i := 7) rfl⟩
  · exact ⟨⟨_, rfl, rfl⟩, by decide, List.mem_of_getElem? (i := 8) rfl⟩
  · exact ⟨⟨_, rfl, rfl⟩, by decide, List.mem_of_getElem? (i := 9) rfl⟩
/-- what a call on the interface asks of what answers it -/
def zRcA (l : Launch) (g : zGd) (m : zMm) (fr lo : Nat) (rec : Option Nat → Option Nat → Option Int32) : Prop := ∀ (a b : Option Nat) (r : Int32), rec a b = some r → ∃ a0 ci : Nat, a = some a0 ∧ ci ∈ ([8, 9, 10] : List Nat) ∧ (zK g a0).1 = ci + 1 ∧ 11 + zIn ci ≤ 40 ∧ zCT l (zIy ci) (zIc ci) (zIn ci) (some .boolean) fr lo g m [va_rf a, va_rf b] (some (.int r)) g m
theorem g_cFA {rec : Option Nat → Option Nat → Option Int32} {fr' lo' index count cn : Nat} {a b : Option Nat} {rest : List Value} {K : Int32 → Option α} (hr : zRcA (xl X) g m fr' lo' rec) (q1 : Cond.methodLink own index zyAsk ∈ lw_all) (hroom : fr' + 1 ≤ fr ∧ 48 + lo' ≤ lo) (hcat : zCat rest cn) (hc8 : cn ≤ 8) (d : decode cc pc = .ok (.invokeinterface index count, 5)) (h : (rec a b).bind K = some fin) (kk : ∀ r, K r = some fin → zG X cc nL own mn fr lo (pc + 5) L (.int r :: rest) g m) : zG X cc nL own mn fr lo pc L (va_rf b :: va_rf a :: rest) g m := by
  obtain ⟨r, e0, h2⟩ := zB_e h
  have k0 := kk r h2
  obtain ⟨a0, ci, rfl, hci, hk, hn40, hct⟩ := hr a b r e0
  refine ⟨hct.1.tr k0.1, fun hF H locs cells slots ls hR hL => ?_⟩
  have hroom2 := zRn.room hF hR k0.1 (k := zZ g - zZ g) (n := zL g - zL g) (by omega) (by omega)
  obtain ⟨⟨q, hq, hq1⟩, hlt, hfw⟩ := zIAc ci hci
  have hat := (hF.K.1 ci q hq).2
  rw [hq1] at hat
  have hrecv := zRn.recv hF hR hk hq hlt
  rw [hq1] at hrecv
  exact zRun5 (n := 0) hR hct.1 (va_runF (As := [va_rf b]) (rest := rest) (b := a0) hat ⟨hF.ex, hF.by, hF.ml, hF.ow, hF.ts⟩ (hct.2 hF.fl (xD X)) (va_cwF 1 hF.ts (zIAw q1 ci hci) rfl rfl rfl (hF.N.2.2.2.2.2 _ hfw) ⟨by decide, by decide, by decide +kernel⟩ ⟨by rw [hF.ro.1]; exact hroom.1, by rw [hF.ro.2]; show 8 + (zIn ci + 11) + lo' ≤ lo; omega⟩) ⟨zSt.blind, hrecv, fun U hU hW => ⟨rfl, zSt.call hF hR hU hW⟩⟩ rfl rfl hL.1 rfl (hcat.room hc8) d hroom2) (fun H1 locs1 c1 s1 hR1 => k0.2 hF H1 locs1 c1 s1 ls hR1 hL)
end
