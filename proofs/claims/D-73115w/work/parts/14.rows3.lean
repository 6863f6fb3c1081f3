/-! ROWS 3: stores into fields and arrays, loads from arrays, what is made, statics (printed by gen/rows3.py) -/
set_option maxRecDepth 100000
section
variable {X : zCx} {cc : ByteArray} {nL pc fr lo : Nat} {own mn : String} {L : List (Nat × Value)} {st : List Value} {g : zGd} {m : zMm} {α : Type} {fin : α}
theorem zV_i {ci k a : Nat} {v : Int32} (hz : zF ci k = 0) (j : Nat) : zV ci (zsI m a k v) a j = (if j = k then .int v else zV ci m a j) := by
  by_cases h : j = k
  · subst h; rw [if_pos rfl]; unfold zV; rw [hz]; show Value.int (zup (zI m) a j v a j) = _; rw [zup_s]
  · rw [if_neg h]; unfold zV; rw [zsI_I, zsI_J, zsI_R, zup_k _ v h]
theorem zV_j {ci k a : Nat} {v : Int64} (hz : zF ci k = 1) (j : Nat) : zV ci (zsJ m a k v) a j = (if j = k then .long v else zV ci m a j) := by
  by_cases h : j = k
  · subst h; rw [if_pos rfl]; unfold zV; rw [hz]; show Value.long (zup (zJ m) a j v a j) = _; rw [zup_s]
  · rw [if_neg h]; unfold zV; rw [zsJ_I, zsJ_J, zsJ_R, zup_k _ v h]
theorem zV_r {ci k a : Nat} {v : Option Nat} (hz : zF ci k = 2) (j : Nat) : zV ci (zsR m a k v) a j = (if j = k then va_rf v else zV ci m a j) := by
  by_cases h : j = k
  · subst h; rw [if_pos rfl]; unfold zV; rw [hz]; show va_rf (zup (zR m) a j v a j) = _; rw [zup_s]
  · rw [if_neg h]; unfold zV; rw [zsR_I, zsR_J, zsR_R, zup_k _ v h]
/-- from the kit's field row: the cell with one place written -/
theorem zRn.putO {H H1 : Heap} {locs : List Loc} {cells slots : Nat} {m' : zMm} {a ci k i : Nat} {v : Value} {C : String} {T : u_T} {N : Nat} {iS : Nat → Nat} {cell : Cell} (hR : zRn X g m H locs cells slots) (h1 : (zK g a).1 = ci + 1) (hb : zB g ≤ a) (hci : ci < 100) (hc : zCl[ci]? = some (C, T, N)) (hi : iS = (xD X).1.2 ci) (hap : ∀ x y, x < N → y < N → x ≠ y → iS x ≠ iS y) (hk : k < N) (he : H1[a]? = some (cell.setSlot (iS k) v)) (hz : H1.size = H.size) (oq : ∀ q : Nat, q ≠ a → H1[q]? = H[q]?) (q2 : cell.cls = (xD X).1.1 ci) (q3 : cell.vm = .none) (q4 : ∀ j, j < N → cell.slots[iS j]? = some (vp_V (zFs ci m a) j)) (hV : ∀ j, zV ci m' a j = (if j = k then v else zV ci m a j)) (hN : N = zN ci) (ho : ∀ q : Nat, q ≠ a → zE (xD X) g m' q = zE (xD X) g m q) (q1 : H[a]? = some cell) : zRn X g m' H1 (locs ++ [⟨a, i⟩]) cells slots := by
  refine hR.put hb hz oq ?_ ho (fun h6 => by
    obtain ⟨c9, k1, k2⟩ := hR.1.2.2 a h6
    cases k1.symm.trans q1
    exact ⟨_, he, k2.1, (Array.size_setIfInBounds ..).trans k2.2⟩)
  rw [zE_o (zK1 h1) hci]
  refine ⟨_, hc, ?_⟩
  subst hi
  refine t_OB.to (V := updV (vp_V (zFs ci m a)) k v) ⟨_, he, q2, q3, t_set q4 hap hk v⟩ (fun j hj => ?_)
  have hj' : j < zN ci := hN ▸ hj
  have e1 : vp_V (zFs ci m' a) j = zV ci m' a j := by
    show (zFs ci m' a).getD j .null = _
    rw [List.getD_eq_getElem?_getD, zFs_at m' a hj']; rfl
  have e2 : vp_V (zFs ci m a) j = zV ci m a j := by
    show (zFs ci m a).getD j .null = _
    rw [List.getD_eq_getElem?_getD, zFs_at m a hj']; rfl
  rw [e1, hV j]
  unfold updV
  by_cases h : j = k
  · rw [if_pos h, if_pos h]
  · rw [if_neg h, if_neg h, e2]
theorem g_puti {C ref : String} {T : u_T} {N ci index k : Nat} {a : Option Nat} {v : Int32} {K : zMm → Option α} (hc : zCl[ci]? = some (C, T, N)) (hin : ∀ w ∈ u_ws C T N, w ∈ lw_all) (ty0 : Nat → FieldType) (hty0 : ∀ k, k < N → parseFieldDescriptor (T k).2.2.1 = some (ty0 k)) (hnm : ∀ a, a < N → ∀ b, b < N → a ≠ b → (T a).2.1 ≠ (T b).2.1) (hk : k < N) (hz : zF ci k = 0) (q : Cond.fieldLink own index ref (T k).2.1 (T k).2.2.1 ∈ lw_all) (hsame : ∀ x, (xs X).fieldFound? (T k).1 (T k).2.1 (T k).2.2.1 = some x → (xs X).fieldFound? ref (T k).2.1 (T k).2.2.1 = some x) (hfin : (T k).2.2.2 = false) (hty : parseFieldDescriptor (T k).2.2.1 = some .int) (hlt : ci < 100 ∧ N = zN ci) (d : decode cc pc = .ok (.putfield index, 3)) (h : (zpi g m ci k a v).bind K = some fin) (kk : ∀ m', K m' = some fin → zG X cc nL own mn fr lo (pc + 3) L st g m') : zG X cc nL own mn fr lo pc L (.int v :: va_rf a :: st) g m := by
  obtain ⟨a0, rfl, h1, h2⟩ := zop h
  refine ⟨(kk _ h2).1, fun hF H locs cells slots ls hR hL => ?_⟩
  have hD1 : va_D (fun _ => True) [(a0, (.inr (ci, zFs ci m a0) : va_E))] := ⟨fun i j p q hi hj _ => by
    have := (List.getElem?_eq_some_iff.mp hi).1
    have := (List.getElem?_eq_some_iff.mp hj).1
    simp at *; omega, fun _ _ _ => trivial⟩
  have hP := hR.at h1.1 hlt.1
  obtain ⟨r, e1, cell, q1, q2, q3, q4⟩ := hP 0 _ rfl
  have hr : r = (C, T, N) := Option.some.inj (e1.symm.trans hc)
  subst hr
  have hap := va_apart (own := own) hF.ts hin ty0 hty0 hnm hF.K hc
  obtain ⟨hS, hfc, kC, hkC, hkind⟩ := hF.K.1 ci _ hc
  obtain ⟨cf, kf, fi, f, hi, hsl⟩ := hS k hk
  have hlay := hF.ts _ (hin _ (u_in_lay hk))
  unfold u_lay at hlay
  rw [if_neg (by rw [hfin]; decide)] at hlay
  have hst := (u_facts hfc hkC (u_lays hF.ts hin hk) hi).1
  have h6 := u_store (v := .int v) hfc hkC hkind hlay hi hty rfl rfl
  refine W.putK hF.ex hF.by (f := f) ⟨hF.ow, hF.ts _ q, ⟨_, _, _, hsame _ hi⟩, hst⟩ (by rw [q2]; exact h6) q1 q3 (by rw [hsl]; exact k2_hasslot (q4 k hk)) rfl rfl d fun H' e1 e2 e3 => ?_
  rw [hsl] at e1
  exact (kk _ h2).2 hF H' _ cells slots ls (hR.putO (iS := (xD X).1.2 ci) h1.1 h1.2 hlt.1 hc rfl hap hk e1 e2 e3 q2 q3 q4 (zV_i hz) hlt.2 (fun q hq => zsI_o q hq) q1) hL
theorem g_putz {C ref : String} {T : u_T} {N ci index k : Nat} {a : Option Nat} {v : Int32} {K : zMm → Option α} (hc : zCl[ci]? = some (C, T, N)) (hin : ∀ w ∈ u_ws C T N, w ∈ lw_all) (ty0 : Nat → FieldType) (hty0 : ∀ k, k < N → parseFieldDescriptor (T k).2.2.1 = some (ty0 k)) (hnm : ∀ a, a < N → ∀ b, b < N → a ≠ b → (T a).2.1 ≠ (T b).2.1) (hk : k < N) (hz : zF ci k = 0) (q : Cond.fieldLink own index ref (T k).2.1 (T k).2.2.1 ∈ lw_all) (hsame : ∀ x, (xs X).fieldFound? (T k).1 (T k).2.1 (T k).2.2.1 = some x → (xs X).fieldFound? ref (T k).2.1 (T k).2.2.1 = some x) (hfin : (T k).2.2.2 = false) (hty : parseFieldDescriptor (T k).2.2.1 = some .boolean) (hlt : ci < 100 ∧ N = zN ci) (d : decode cc pc = .ok (.putfield index, 3)) (h : (zpz g m ci k a v).bind K = some fin) (kk : ∀ m', K m' = some fin → zG X cc nL own mn fr lo (pc + 3) L st g m') : zG X cc nL own mn fr lo pc L (.int v :: va_rf a :: st) g m := by
  obtain ⟨a0, rfl, h1, h2⟩ := zop h
  refine ⟨(kk _ h2).1, fun hF H locs cells slots ls hR hL => ?_⟩
  have hD1 : va_D (fun _ => True) [(a0, (.inr (ci, zFs ci m a0) : va_E))] := ⟨fun i j p q hi hj _ => by
    have := (List.getElem?_eq_some_iff.mp hi).1
    have := (List.getElem?_eq_some_iff.mp hj).1
    simp at *; omega, fun _ _ _ => trivial⟩
  have hP := hR.at h1.1.1 hlt.1
  obtain ⟨r, e1, cell, q1, q2, q3, q4⟩ := hP 0 _ rfl
  have hr : r = (C, T, N) := Option.some.inj (e1.symm.trans hc)
  subst hr
  have hap := va_apart (own := own) hF.ts hin ty0 hty0 hnm hF.K hc
  obtain ⟨hS, hfc, kC, hkC, hkind⟩ := hF.K.1 ci _ hc
  obtain ⟨cf, kf, fi, f, hi, hsl⟩ := hS k hk
  have hlay := hF.ts _ (hin _ (u_in_lay hk))
  unfold u_lay at hlay
  rw [if_neg (by rw [hfin]; decide)] at hlay
  have hst := (u_facts hfc hkC (u_lays hF.ts hin hk) hi).1
  have h6 := u_store (v := .int v) hfc hkC hkind hlay hi hty (by rcases h1.2 with e | e <;> subst e <;> rfl) (by rcases h1.2 with e | e <;> subst e <;> rfl)
  refine W.putK hF.ex hF.by (f := f) ⟨hF.ow, hF.ts _ q, ⟨_, _, _, hsame _ hi⟩, hst⟩ (by rw [q2]; exact h6) q1 q3 (by rw [hsl]; exact k2_hasslot (q4 k hk)) rfl rfl d fun H' e1 e2 e3 => ?_
  rw [hsl] at e1
  exact (kk _ h2).2 hF H' _ cells slots ls (hR.putO (iS := (xD X).1.2 ci) h1.1.1 h1.1.2 hlt.1 hc rfl hap hk e1 e2 e3 q2 q3 q4 (zV_i hz) hlt.2 (fun q hq => zsI_o q hq) q1) hL
theorem g_putj {C ref : String} {T : u_T} {N ci index k : Nat} {a : Option Nat} {v : Int64} {K : zMm → Option α} (hc : zCl[ci]? = some (C, T, N)) (hin : ∀ w ∈ u_ws C T N, w ∈ lw_all) (ty0 : Nat → FieldType) (hty0 : ∀ k, k < N → parseFieldDescriptor (T k).2.2.1 = some (ty0 k)) (hnm : ∀ a, a < N → ∀ b, b < N → a ≠ b → (T a).2.1 ≠ (T b).2.1) (hk : k < N) (hz : zF ci k = 1) (q : Cond.fieldLink own index ref (T k).2.1 (T k).2.2.1 ∈ lw_all) (hsame : ∀ x, (xs X).fieldFound? (T k).1 (T k).2.1 (T k).2.2.1 = some x → (xs X).fieldFound? ref (T k).2.1 (T k).2.2.1 = some x) (hfin : (T k).2.2.2 = false) (hty : parseFieldDescriptor (T k).2.2.1 = some .long) (hlt : ci < 100 ∧ N = zN ci) (d : decode cc pc = .ok (.putfield index, 3)) (h : (zpj g m ci k a v).bind K = some fin) (kk : ∀ m', K m' = some fin → zG X cc nL own mn fr lo (pc + 3) L st g m') : zG X cc nL own mn fr lo pc L (.long v :: va_rf a :: st) g m := by
  obtain ⟨a0, rfl, h1, h2⟩ := zop h
  refine ⟨(kk _ h2).1, fun hF H locs cells slots ls hR hL => ?_⟩
  have hD1 : va_D (fun _ => True) [(a0, (.inr (ci, zFs ci m a0) : va_E))] := ⟨fun i j p q hi hj _ => by
    have := (List.getElem?_eq_some_iff.mp hi).1
    have := (List.getElem?_eq_some_iff.mp hj).1
    simp at *; omega, fun _ _ _ => trivial⟩
  have hP := hR.at h1.1 hlt.1
  obtain ⟨r, e1, cell, q1, q2, q3, q4⟩ := hP 0 _ rfl
  have hr : r = (C, T, N) := Option.some.inj (e1.symm.trans hc)
  subst hr
  have hap := va_apart (own := own) hF.ts hin ty0 hty0 hnm hF.K hc
  obtain ⟨hS, hfc, kC, hkC, hkind⟩ := hF.K.1 ci _ hc
  obtain ⟨cf, kf, fi, f, hi, hsl⟩ := hS k hk
  have hlay := hF.ts _ (hin _ (u_in_lay hk))
  unfold u_lay at hlay
  rw [if_neg (by rw [hfin]; decide)] at hlay
  have hst := (u_facts hfc hkC (u_lays hF.ts hin hk) hi).1
  have h6 := u_store (v := .long v) hfc hkC hkind hlay hi hty rfl rfl
  refine W.putK hF.ex hF.by (f := f) ⟨hF.ow, hF.ts _ q, ⟨_, _, _, hsame _ hi⟩, hst⟩ (by rw [q2]; exact h6) q1 q3 (by rw [hsl]; exact k2_hasslot (q4 k hk)) rfl rfl d fun H' e1 e2 e3 => ?_
  rw [hsl] at e1
  exact (kk _ h2).2 hF H' _ cells slots ls (hR.putO (iS := (xD X).1.2 ci) h1.1 h1.2 hlt.1 hc rfl hap hk e1 e2 e3 q2 q3 q4 (zV_j hz) hlt.2 (fun q hq => zsJ_o q hq) q1) hL
theorem g_putr {C ref : String} {T : u_T} {N ci index k : Nat} {a : Option Nat} {v : Option Nat} {K : zMm → Option α} (hc : zCl[ci]? = some (C, T, N)) (hin : ∀ w ∈ u_ws C T N, w ∈ lw_all) (ty0 : Nat → FieldType) (hty0 : ∀ k, k < N → parseFieldDescriptor (T k).2.2.1 = some (ty0 k)) (hnm : ∀ a, a < N → ∀ b, b < N → a ≠ b → (T a).2.1 ≠ (T b).2.1) (hk : k < N) (hz : zF ci k = 2) (q : Cond.fieldLink own index ref (T k).2.1 (T k).2.2.1 ∈ lw_all) (hsame : ∀ x, (xs X).fieldFound? (T k).1 (T k).2.1 (T k).2.2.1 = some x → (xs X).fieldFound? ref (T k).2.1 (T k).2.2.1 = some x) (hfin : (T k).2.2.2 = false) {fty : FieldType} (hty : parseFieldDescriptor (T k).2.2.1 = some fty) (hnf : ∀ v : Option Nat, narrow fty (va_rf v) = va_rf v ∧ fits fty (va_rf v) = true) (hlt : ci < 100 ∧ N = zN ci) (d : decode cc pc = .ok (.putfield index, 3)) (h : (zpr g m ci k a v).bind K = some fin) (kk : ∀ m', K m' = some fin → zG X cc nL own mn fr lo (pc + 3) L st g m') : zG X cc nL own mn fr lo pc L (va_rf v :: va_rf a :: st) g m := by
  obtain ⟨a0, rfl, h1, h2⟩ := zop h
  refine ⟨(kk _ h2).1, fun hF H locs cells slots ls hR hL => ?_⟩
  have hD1 : va_D (fun _ => True) [(a0, (.inr (ci, zFs ci m a0) : va_E))] := ⟨fun i j p q hi hj _ => by
    have := (List.getElem?_eq_some_iff.mp hi).1
    have := (List.getElem?_eq_some_iff.mp hj).1
    simp at *; omega, fun _ _ _ => trivial⟩
  have hP := hR.at h1.1 hlt.1
  obtain ⟨r, e1, cell, q1, q2, q3, q4⟩ := hP 0 _ rfl
  have hr : r = (C, T, N) := Option.some.inj (e1.symm.trans hc)
  subst hr
  have hap := va_apart (own := own) hF.ts hin ty0 hty0 hnm hF.K hc
  obtain ⟨hS, hfc, kC, hkC, hkind⟩ := hF.K.1 ci _ hc
  obtain ⟨cf, kf, fi, f, hi, hsl⟩ := hS k hk
  have hlay := hF.ts _ (hin _ (u_in_lay hk))
  unfold u_lay at hlay
  rw [if_neg (by rw [hfin]; decide)] at hlay
  have hst := (u_facts hfc hkC (u_lays hF.ts hin hk) hi).1
  have h6 := u_store (v := va_rf v) hfc hkC hkind hlay hi hty (hnf v).1 (hnf v).2
  refine W.putK hF.ex hF.by (f := f) ⟨hF.ow, hF.ts _ q, ⟨_, _, _, hsame _ hi⟩, hst⟩ (by rw [q2]; exact h6) q1 q3 (by rw [hsl]; exact k2_hasslot (q4 k hk)) rfl rfl d fun H' e1 e2 e3 => ?_
  rw [hsl] at e1
  exact (kk _ h2).2 hF H' _ cells slots ls (hR.putO (iS := (xD X).1.2 ci) h1.1 h1.2 hlt.1 hc rfl hap hk e1 e2 e3 q2 q3 q4 (zV_r hz) hlt.2 (fun q hq => zsR_o q hq) q1) hL
theorem g_putiF {C ref : String} {T : u_T} {N ci index k : Nat} {a : Option Nat} {v : Int32} {K : zMm → Option α} (hc : zCl[ci]? = some (C, T, N)) (hin : ∀ w ∈ u_ws C T N, w ∈ lw_all) (ty0 : Nat → FieldType) (hty0 : ∀ k, k < N → parseFieldDescriptor (T k).2.2.1 = some (ty0 k)) (hnm : ∀ a, a < N → ∀ b, b < N → a ≠ b → (T a).2.1 ≠ (T b).2.1) (hk : k < N) (hz : zF ci k = 0) (q : Cond.fieldLink own index ref (T k).2.1 (T k).2.2.1 ∈ lw_all) (hsame : ∀ x, (xs X).fieldFound? (T k).1 (T k).2.1 (T k).2.2.1 = some x → (xs X).fieldFound? ref (T k).2.1 (T k).2.2.1 = some x) (hfin : (T k).2.2.2 = true) (hin2 : mn = "<init>") (hdecl : (T k).1 = own) (hty : parseFieldDescriptor (T k).2.2.1 = some .int) (hlt : ci < 100 ∧ N = zN ci) (d : decode cc pc = .ok (.putfield index, 3)) (h : (zpi g m ci k a v).bind K = some fin) (kk : ∀ m', K m' = some fin → zG X cc nL own mn fr lo (pc + 3) L st g m') : zG X cc nL own mn fr lo pc L (.int v :: va_rf a :: st) g m := by
  obtain ⟨a0, rfl, h1, h2⟩ := zop h
  refine ⟨(kk _ h2).1, fun hF H locs cells slots ls hR hL => ?_⟩
  have hD1 : va_D (fun _ => True) [(a0, (.inr (ci, zFs ci m a0) : va_E))] := ⟨fun i j p q hi hj _ => by
    have := (List.getElem?_eq_some_iff.mp hi).1
    have := (List.getElem?_eq_some_iff.mp hj).1
    simp at *; omega, fun _ _ _ => trivial⟩
  have hP := hR.at h1.1 hlt.1
  obtain ⟨r, e1, cell, q1, q2, q3, q4⟩ := hP 0 _ rfl
  have hr : r = (C, T, N) := Option.some.inj (e1.symm.trans hc)
  subst hr
  have hap := va_apart (own := own) hF.ts hin ty0 hty0 hnm hF.K hc
  obtain ⟨hS, hfc, kC, hkC, hkind⟩ := hF.K.1 ci _ hc
  obtain ⟨cf, kf, fi, f, hi, hsl⟩ := hS k hk
  have hlay := hF.ts _ (hin _ (u_in_lay hk))
  unfold u_lay at hlay
  rw [if_pos hfin] at hlay
  have hst := (u_facts hfc hkC (u_lays hF.ts hin hk) hi).1
  have hcf : (xm X).cls = cf := by
    obtain ⟨_, _, c', _, _, _, -, -, hf', -, -, -, hown2, -⟩ := Cond.laysFinal_spec hlay
    have e1 : c' = cf := by have := hi.symm.trans hf'; simp at this; exact this.1.symm
    rw [hdecl] at hown2
    rw [← e1]; exact Option.some.inj (hF.ow.symm.trans hown2)
  have h6 := u_fits (v := .int v) hfc hkC hkind (Or.inr hlay) hi hty rfl rfl
  refine W.putFinK hF.ex hF.by hF.ow (hF.ts _ q) (hsame _ hi) hst hcf (hF.nm.trans hin2) (by rw [q2]; exact h6) q1 q3 (by rw [hsl]; exact k2_hasslot (q4 k hk)) rfl rfl d fun H' e1 e2 e3 => ?_
  rw [hsl] at e1
  exact (kk _ h2).2 hF H' _ cells slots ls (hR.putO (iS := (xD X).1.2 ci) h1.1 h1.2 hlt.1 hc rfl hap hk e1 e2 e3 q2 q3 q4 (zV_i hz) hlt.2 (fun q hq => zsI_o q hq) q1) hL
theorem g_putzF {C ref : String} {T : u_T} {N ci index k : Nat} {a : Option Nat} {v : Int32} {K : zMm → Option α} (hc : zCl[ci]? = some (C, T, N)) (hin : ∀ w ∈ u_ws C T N, w ∈ lw_all) (ty0 : Nat → FieldType) (hty0 : ∀ k, k < N → parseFieldDescriptor (T k).2.2.1 = some (ty0 k)) (hnm : ∀ a, a < N → ∀ b, b < N → a ≠ b → (T a).2.1 ≠ (T b).2.1) (hk : k < N) (hz : zF ci k = 0) (q : Cond.fieldLink own index ref (T k).2.1 (T k).2.2.1 ∈ lw_all) (hsame : ∀ x, (xs X).fieldFound? (T k).1 (T k).2.1 (T k).2.2.1 = some x → (xs X).fieldFound? ref (T k).2.1 (T k).2.2.1 = some x) (hfin : (T k).2.2.2 = true) (hin2 : mn = "<init>") (hdecl : (T k).1 = own) (hty : parseFieldDescriptor (T k).2.2.1 = some .boolean) (hlt : ci < 100 ∧ N = zN ci) (d : decode cc pc = .ok (.putfield index, 3)) (h : (zpz g m ci k a v).bind K = some fin) (kk : ∀ m', K m' = some fin → zG X cc nL own mn fr lo (pc + 3) L st g m') : zG X cc nL own mn fr lo pc L (.int v :: va_rf a :: st) g m := by
  obtain ⟨a0, rfl, h1, h2⟩ := zop h
  refine ⟨(kk _ h2).1, fun hF H locs cells slots ls hR hL => ?_⟩
  have hD1 : va_D (fun _ => True) [(a0, (.inr (ci, zFs ci m a0) : va_E))] := ⟨fun i j p q hi hj _ => by
    have := (List.getElem?_eq_some_iff.mp hi).1
    have := (List.getElem?_eq_some_iff.mp hj).1
    simp at *; omega, fun _ _ _ => trivial⟩
  have hP := hR.at h1.1.1 hlt.1
  obtain ⟨r, e1, cell, q1, q2, q3, q4⟩ := hP 0 _ rfl
  have hr : r = (C, T, N) := Option.some.inj (e1.symm.trans hc)
  subst hr
  have hap := va_apart (own := own) hF.ts hin ty0 hty0 hnm hF.K hc
  obtain ⟨hS, hfc, kC, hkC, hkind⟩ := hF.K.1 ci _ hc
  obtain ⟨cf, kf, fi, f, hi, hsl⟩ := hS k hk
  have hlay := hF.ts _ (hin _ (u_in_lay hk))
  unfold u_lay at hlay
  rw [if_pos hfin] at hlay
  have hst := (u_facts hfc hkC (u_lays hF.ts hin hk) hi).1
  have hcf : (xm X).cls = cf := by
    obtain ⟨_, _, c', _, _, _, -, -, hf', -, -, -, hown2, -⟩ := Cond.laysFinal_spec hlay
    have e1 : c' = cf := by have := hi.symm.trans hf'; simp at this; exact this.1.symm
    rw [hdecl] at hown2
    rw [← e1]; exact Option.some.inj (hF.ow.symm.trans hown2)
  have h6 := u_fits (v := .int v) hfc hkC hkind (Or.inr hlay) hi hty (by rcases h1.2 with e | e <;> subst e <;> rfl) (by rcases h1.2 with e | e <;> subst e <;> rfl)
  refine W.putFinK hF.ex hF.by hF.ow (hF.ts _ q) (hsame _ hi) hst hcf (hF.nm.trans hin2) (by rw [q2]; exact h6) q1 q3 (by rw [hsl]; exact k2_hasslot (q4 k hk)) rfl rfl d fun H' e1 e2 e3 => ?_
  rw [hsl] at e1
  exact (kk _ h2).2 hF H' _ cells slots ls (hR.putO (iS := (xD X).1.2 ci) h1.1.1 h1.1.2 hlt.1 hc rfl hap hk e1 e2 e3 q2 q3 q4 (zV_i hz) hlt.2 (fun q hq => zsI_o q hq) q1) hL
theorem g_putrF {C ref : String} {T : u_T} {N ci index k : Nat} {a : Option Nat} {v : Option Nat} {K : zMm → Option α} (hc : zCl[ci]? = some (C, T, N)) (hin : ∀ w ∈ u_ws C T N, w ∈ lw_all) (ty0 : Nat → FieldType) (hty0 : ∀ k, k < N → parseFieldDescriptor (T k).2.2.1 = some (ty0 k)) (hnm : ∀ a, a < N → ∀ b, b < N → a ≠ b → (T a).2.1 ≠ (T b).2.1) (hk : k < N) (hz : zF ci k = 2) (q : Cond.fieldLink own index ref (T k).2.1 (T k).2.2.1 ∈ lw_all) (hsame : ∀ x, (xs X).fieldFound? (T k).1 (T k).2.1 (T k).2.2.1 = some x → (xs X).fieldFound? ref (T k).2.1 (T k).2.2.1 = some x) (hfin : (T k).2.2.2 = true) (hin2 : mn = "<init>") (hdecl : (T k).1 = own) {fty : FieldType} (hty : parseFieldDescriptor (T k).2.2.1 = some fty) (hnf : ∀ v : Option Nat, narrow fty (va_rf v) = va_rf v ∧ fits fty (va_rf v) = true) (hlt : ci < 100 ∧ N = zN ci) (d : decode cc pc = .ok (.putfield index, 3)) (h : (zpr g m ci k a v).bind K = some fin) (kk : ∀ m', K m' = some fin → zG X cc nL own mn fr lo (pc + 3) L st g m') : zG X cc nL own mn fr lo pc L (va_rf v :: va_rf a :: st) g m := by
  obtain ⟨a0, rfl, h1, h2⟩ := zop h
  refine ⟨(kk _ h2).1, fun hF H locs cells slots ls hR hL => ?_⟩
  have hD1 : va_D (fun _ => True) [(a0, (.inr (ci, zFs ci m a0) : va_E))] := ⟨fun i j p q hi hj _ => by
    have := (List.getElem?_eq_some_iff.mp hi).1
    have := (List.getElem?_eq_some_iff.mp hj).1
    simp at *; omega, fun _ _ _ => trivial⟩
  have hP := hR.at h1.1 hlt.1
  obtain ⟨r, e1, cell, q1, q2, q3, q4⟩ := hP 0 _ rfl
  have hr : r = (C, T, N) := Option.some.inj (e1.symm.trans hc)
  subst hr
  have hap := va_apart (own := own) hF.ts hin ty0 hty0 hnm hF.K hc
  obtain ⟨hS, hfc, kC, hkC, hkind⟩ := hF.K.1 ci _ hc
  obtain ⟨cf, kf, fi, f, hi, hsl⟩ := hS k hk
  have hlay := hF.ts _ (hin _ (u_in_lay hk))
  unfold u_lay at hlay
  rw [if_pos hfin] at hlay
  have hst := (u_facts hfc hkC (u_lays hF.ts hin hk) hi).1
  have hcf : (xm X).cls = cf := by
    obtain ⟨_, _, c', _, _, _, -, -, hf', -, -, -, hown2, -⟩ := Cond.laysFinal_spec hlay
    have e1 : c' = cf := by have := hi.symm.trans hf'; simp at this; exact this.1.symm
    rw [hdecl] at hown2
    rw [← e1]; exact Option.some.inj (hF.ow.symm.trans hown2)
  have h6 := u_fits (v := va_rf v) hfc hkC hkind (Or.inr hlay) hi hty (hnf v).1 (hnf v).2
  refine W.putFinK hF.ex hF.by hF.ow (hF.ts _ q) (hsame _ hi) hst hcf (hF.nm.trans hin2) (by rw [q2]; exact h6) q1 q3 (by rw [hsl]; exact k2_hasslot (q4 k hk)) rfl rfl d fun H' e1 e2 e3 => ?_
  rw [hsl] at e1
  exact (kk _ h2).2 hF H' _ cells slots ls (hR.putO (iS := (xD X).1.2 ci) h1.1 h1.2 hlt.1 hc rfl hap hk e1 e2 e3 q2 q3 q4 (zV_r hz) hlt.2 (fun q hq => zsR_o q hq) q1) hL
theorem g_putiN {C ref host : String} {T : u_T} {N ci index k : Nat} {a : Option Nat} {v : Int32} {K : zMm → Option α} (hc : zCl[ci]? = some (C, T, N)) (hin : ∀ w ∈ u_ws C T N, w ∈ lw_all) (ty0 : Nat → FieldType) (hty0 : ∀ k, k < N → parseFieldDescriptor (T k).2.2.1 = some (ty0 k)) (hnm : ∀ a, a < N → ∀ b, b < N → a ≠ b → (T a).2.1 ≠ (T b).2.1) (hk : k < N) (hz : zF ci k = 0) (q : Cond.fieldLinkNest own index ref (T k).2.1 (T k).2.2.1 host ∈ lw_tbl) (hsame : ∀ x, (xs X).fieldFound? (T k).1 (T k).2.1 (T k).2.2.1 = some x → (xs X).fieldFound? ref (T k).2.1 (T k).2.2.1 = some x) (hfin : (T k).2.2.2 = false) (hty : parseFieldDescriptor (T k).2.2.1 = some .int) (hlt : ci < 100 ∧ N = zN ci) (d : decode cc pc = .ok (.putfield index, 3)) (h : (zpi g m ci k a v).bind K = some fin) (kk : ∀ m', K m' = some fin → zG X cc nL own mn fr lo (pc + 3) L st g m') : zG X cc nL own mn fr lo pc L (.int v :: va_rf a :: st) g m := by
  obtain ⟨a0, rfl, h1, h2⟩ := zop h
  refine ⟨(kk _ h2).1, fun hF H locs cells slots ls hR hL => ?_⟩
  have hD1 : va_D (fun _ => True) [(a0, (.inr (ci, zFs ci m a0) : va_E))] := ⟨fun i j p q hi hj _ => by
    have := (List.getElem?_eq_some_iff.mp hi).1
    have := (List.getElem?_eq_some_iff.mp hj).1
    simp at *; omega, fun _ _ _ => trivial⟩
  have hP := hR.at h1.1 hlt.1
  obtain ⟨r, e1, cell, q1, q2, q3, q4⟩ := hP 0 _ rfl
  have hr : r = (C, T, N) := Option.some.inj (e1.symm.trans hc)
  subst hr
  have hap := va_apart (own := own) hF.ts hin ty0 hty0 hnm hF.K hc
  obtain ⟨hS, hfc, kC, hkC, hkind⟩ := hF.K.1 ci _ hc
  obtain ⟨cf, kf, fi, f, hi, hsl⟩ := hS k hk
  have hlay := hF.ts _ (hin _ (u_in_lay hk))
  unfold u_lay at hlay
  rw [if_neg (by rw [hfin]; decide)] at hlay
  have hst := (u_facts hfc hkC (u_lays hF.ts hin hk) hi).1
  have h6 := u_store (v := .int v) hfc hkC hkind hlay hi hty rfl rfl
  refine va_WputK hF.ex hF.by (f := f) hF.ow (va_Nw.use rfl (hF.N.1 _ _ _ _ _ _ q)) (hsame _ hi) hst (by rw [q2]; exact h6) q1 q3 (by rw [hsl]; exact k2_hasslot (q4 k hk)) rfl rfl d fun H' e1 e2 e3 => ?_
  rw [hsl] at e1
  exact (kk _ h2).2 hF H' _ cells slots ls (hR.putO (iS := (xD X).1.2 ci) h1.1 h1.2 hlt.1 hc rfl hap hk e1 e2 e3 q2 q3 q4 (zV_i hz) hlt.2 (fun q hq => zsI_o q hq) q1) hL
theorem g_iald {a : Option Nat} {i : Int32} {K : Int32 → Option α} (d : decode cc pc = .ok (.iaload, 1)) (h : (zald 101 g m a i).bind K = some fin) (kk : ∀ v, K v = some fin → zG X cc nL own mn fr lo (pc + 1) L (.int v :: st) g m) : zG X cc nL own mn fr lo pc L (.int i :: va_rf a :: st) g m := by
  obtain ⟨a0, rfl, h1, h2⟩ := zop h
  refine ⟨(kk _ h2).1, fun hF H locs cells slots ls hR hL => ?_⟩
  have hlt : i.toNatClampNeg < (zK g a0).2 := Nat.not_le.mp fun q => h1.2 (Or.inr q)
  obtain ⟨cell, e0, ⟨e1, e2, e3⟩, e4⟩ := hR.ai (t := 0) h1.1 (by decide)
  exact W.iald (v := .int (zI m a0 i.toNatClampNeg)) hF.ex hF.by e0 (zIsA (hF.K.2 0 _ rfl).1 e1 e4) e4.1 (fun q => h1.2 (q.imp id (Nat.le_trans e2.1))) (e3 _ hlt) rfl rfl d ((kk _ h2).2 hF H locs cells slots ls hR hL)
theorem g_bald {a : Option Nat} {i : Int32} {K : Int32 → Option α} (d : decode cc pc = .ok (.baload, 1)) (h : (zald 102 g m a i).bind K = some fin) (kk : ∀ v, K v = some fin → zG X cc nL own mn fr lo (pc + 1) L (.int v :: st) g m) : zG X cc nL own mn fr lo pc L (.int i :: va_rf a :: st) g m := by
  obtain ⟨a0, rfl, h1, h2⟩ := zop h
  refine ⟨(kk _ h2).1, fun hF H locs cells slots ls hR hL => ?_⟩
  have hlt : i.toNatClampNeg < (zK g a0).2 := Nat.not_le.mp fun q => h1.2 (Or.inr q)
  obtain ⟨cell, e0, ⟨e1, e2, e3⟩, e4⟩ := hR.ai (t := 1) h1.1 (by decide)
  exact W.bald (v := .int (zI m a0 i.toNatClampNeg)) hF.ex hF.by e0 (zIsA (hF.K.2 1 _ rfl).1 e1 e4) e4.1 (fun q => h1.2 (q.imp id (Nat.le_trans e2.1))) (e3 _ hlt) rfl rfl d ((kk _ h2).2 hF H locs cells slots ls hR hL)
theorem g_zald {a : Option Nat} {i : Int32} {K : Int32 → Option α} (d : decode cc pc = .ok (.baload, 1)) (h : (zald 103 g m a i).bind K = some fin) (kk : ∀ v, K v = some fin → zG X cc nL own mn fr lo (pc + 1) L (.int v :: st) g m) : zG X cc nL own mn fr lo pc L (.int i :: va_rf a :: st) g m := by
  obtain ⟨a0, rfl, h1, h2⟩ := zop h
  refine ⟨(kk _ h2).1, fun hF H locs cells slots ls hR hL => ?_⟩
  have hlt : i.toNatClampNeg < (zK g a0).2 := Nat.not_le.mp fun q => h1.2 (Or.inr q)
  obtain ⟨cell, e0, ⟨e1, e2, e3⟩, e4⟩ := hR.ai (t := 2) h1.1 (by decide)
  exact W.zald (v := .int (zI m a0 i.toNatClampNeg)) hF.ex hF.by e0 (zIsA (hF.K.2 2 _ rfl).1 e1 e4) e4.1 (fun q => h1.2 (q.imp id (Nat.le_trans e2.1))) (e3 _ hlt) rfl rfl d ((kk _ h2).2 hF H locs cells slots ls hR hL)
theorem g_lald {a : Option Nat} {i : Int32} {K : Int64 → Option α} (d : decode cc pc = .ok (.laload, 1)) (h : (zaldj g m a i).bind K = some fin) (kk : ∀ v, K v = some fin → zG X cc nL own mn fr lo (pc + 1) L (.long v :: st) g m) : zG X cc nL own mn fr lo pc L (.int i :: va_rf a :: st) g m := by
  obtain ⟨a0, rfl, h1, h2⟩ := zop h
  refine ⟨(kk _ h2).1, fun hF H locs cells slots ls hR hL => ?_⟩
  have hlt : i.toNatClampNeg < (zK g a0).2 := Nat.not_le.mp fun q => h1.2 (Or.inr q)
  obtain ⟨cell, e0, ⟨e1, e2, e3⟩, e4⟩ := hR.al h1.1
  exact W.lald (v := .long (zJ m a0 i.toNatClampNeg)) hF.ex hF.by e0 (zIsA (hF.K.2 3 _ rfl).1 e1 e4) e4.1 (fun q => h1.2 (q.imp id (Nat.le_trans e2.1))) (e3 _ hlt) rfl rfl d ((kk _ h2).2 hF H locs cells slots ls hR hL)
theorem zTys_at {cA : Nat → ClassId} {t : Nat} {ty : FieldType} (h : zTy8[t]? = some ty) : (zTys cA)[t]? = some (cA t, ty) := by
  have hl : t < 8 := (List.getElem?_eq_some_iff.mp h).1
  match t, hl with
  | 0, _ => cases h; rfl
  | 1, _ => cases h; rfl
  | 2, _ => cases h; rfl
  | 3, _ => cases h; rfl
  | 4, _ => cases h; rfl
  | 5, _ => cases h; rfl
  | 6, _ => cases h; rfl
  | 7, _ => cases h; rfl
theorem zFx.A (hF : zFx X cc nL own mn fr lo) {t : Nat} {ty : FieldType} (h : zTy[t]? = some ty) : ArrOfT (xs X) ((xD X).2 t) ty := by
  have hl : t < 10 := (List.getElem?_eq_some_iff.mp h).1
  match t, hl with
  | 0, _ => cases h; exact (hF.K.2 0 _ rfl).1
  | 1, _ => cases h; exact (hF.K.2 1 _ rfl).1
  | 2, _ => cases h; exact (hF.K.2 2 _ rfl).1
  | 3, _ => cases h; exact (hF.K.2 3 _ rfl).1
  | 4, _ => cases h; exact (hF.K.2 4 _ rfl).1
  | 5, _ => cases h; exact (hF.K.2 5 _ rfl).1
  | 6, _ => cases h; exact (hF.K.2 6 _ rfl).1
  | 7, _ => cases h; exact (hF.K.2 7 _ rfl).1
  | 8, _ => cases h; exact hF.en.2.2.1.2.1
  | 9, _ => cases h; exact hF.en.2.2.1.2.2
theorem g_aald (t : Nat) {ty : FieldType} (ht : zTy[t]? = some ty) (hr : ty.isReference = true) (h4 : 4 ≤ t) {a : Option Nat} {i : Int32} {K : Option Nat → Option α} (d : decode cc pc = .ok (.aaload, 1)) (h : (zaldr (t + 101) g m a i).bind K = some fin) (kk : ∀ v, K v = some fin → zG X cc nL own mn fr lo (pc + 1) L (va_rf v :: st) g m) : zG X cc nL own mn fr lo pc L (.int i :: va_rf a :: st) g m := by
  obtain ⟨a0, rfl, h1, h2⟩ := zop h
  refine ⟨(kk _ h2).1, fun hF H locs cells slots ls hR hL => ?_⟩
  have hlt : i.toNatClampNeg < (zK g a0).2 := Nat.not_le.mp fun q => h1.2 (Or.inr q)
  obtain ⟨cell, e0, ⟨e1, e2, e3⟩, e4⟩ := hR.aq h1.1 h4
  exact W.aald (v := va_rf (zR m a0 i.toNatClampNeg)) (ty := ty) hF.ex hF.by e0 (zIsA (hF.A ht) e1 e4) hr e4.1 (fun q => h1.2 (q.imp id (Nat.le_trans e2.1))) (e3 _ hlt) rfl rfl d ((kk _ h2).2 hF H locs cells slots ls hR hL)
theorem g_alen {a : Option Nat} {K : Int32 → Option α} (d : decode cc pc = .ok (.arraylength, 1)) (h : (zalen g a).bind K = some fin) (kk : ∀ v, K v = some fin → zG X cc nL own mn fr lo (pc + 1) L (.int v :: st) g m) : zG X cc nL own mn fr lo pc L (va_rf a :: st) g m := by
  obtain ⟨a0, rfl, h1, h2⟩ := zop h
  refine ⟨(kk _ h2).1, fun hF H locs cells slots ls hR hL => ?_⟩
  obtain ⟨t, ht⟩ : ∃ t, (zK g a0).1 = t + 101 := ⟨(zK g a0).1 - 101, by omega⟩
  have h9 : t < 10 := by omega
  obtain ⟨ty, hty⟩ : ∃ ty, zTy[t]? = some ty := by
    match t, h9 with
    | 0, _ => exact ⟨_, rfl⟩
    | 1, _ => exact ⟨_, rfl⟩
    | 2, _ => exact ⟨_, rfl⟩
    | 3, _ => exact ⟨_, rfl⟩
    | 4, _ => exact ⟨_, rfl⟩
    | 5, _ => exact ⟨_, rfl⟩
    | 6, _ => exact ⟨_, rfl⟩
    | 7, _ => exact ⟨_, rfl⟩
    | 8, _ => exact ⟨_, rfl⟩
    | 9, _ => exact ⟨_, rfl⟩
  have k2 := (kk _ h2).2 hF H locs cells slots ls hR hL
  have hA : ∃ V, zAr H a0 ((xD X).2 t) (zK g a0).2 V := by
    by_cases h3 : t < 3
    · exact ⟨_, hR.ai ht h3⟩
    · by_cases h4 : t = 3
      · subst h4; exact ⟨_, hR.al ht⟩
      · exact ⟨_, hR.aq ht (by omega)⟩
  obtain ⟨V, cell, e0, ⟨e1, e2, e3⟩, e4⟩ := hA
  exact W.alen (n := Int32.ofNat (zK g a0).2) hF.ex hF.by e0 (zIsA (hF.A hty) e1 e4) e2.2 rfl rfl d k2
theorem g_iast {a : Option Nat} {i v : Int32} {K : zMm → Option α} (d : decode cc pc = .ok (.iastore, 1)) (h : (zast 101 g m a i (v)).bind K = some fin) (kk : ∀ m', K m' = some fin → zG X cc nL own mn fr lo (pc + 1) L st g m') : zG X cc nL own mn fr lo pc L (.int v :: .int i :: va_rf a :: st) g m := by
  obtain ⟨a0, rfl, h1, h2⟩ := zop h
  refine ⟨(kk _ h2).1, fun hF H locs cells slots ls hR hL => ?_⟩
  obtain ⟨cell, e0, ⟨e1, e2, e3⟩, e4⟩ := hR.ai (t := 0) h1.1.1 (by decide)
  refine W.iast hF.ex hF.by e0 (zIsA (hF.K.2 0 _ rfl).1 e1 e4) e4.1 (fun q => h1.2 (q.imp id (Nat.le_trans e2.1))) rfl rfl d fun H1 e z oq => ?_
  refine (kk _ h2).2 hF H1 _ cells slots ls (hR.put h1.1.2 z oq ?_ (fun q hq => zsI_o q hq) (fun h6 => by rw [h1.1.1] at h6; cases h6)) hL
  rw [zE_i (t := 0) (zK1 h1.1.1) (by decide)]
  refine zAr.set e e1 e2 e3 e4 (fun q => ?_)
  show Value.int (zup (zI m) a0 _ _ a0 q) = _
  by_cases hq : q = i.toNatClampNeg
  · rw [if_pos hq, hq, zup_s]
    try rfl
  · rw [if_neg hq, zup_k _ _ hq]
theorem g_bast {a : Option Nat} {i v : Int32} {K : zMm → Option α} (d : decode cc pc = .ok (.bastore, 1)) (h : (zast 102 g m a i (vp_nar .byte v)).bind K = some fin) (kk : ∀ m', K m' = some fin → zG X cc nL own mn fr lo (pc + 1) L st g m') : zG X cc nL own mn fr lo pc L (.int v :: .int i :: va_rf a :: st) g m := by
  obtain ⟨a0, rfl, h1, h2⟩ := zop h
  refine ⟨(kk _ h2).1, fun hF H locs cells slots ls hR hL => ?_⟩
  obtain ⟨cell, e0, ⟨e1, e2, e3⟩, e4⟩ := hR.ai (t := 1) h1.1.1 (by decide)
  refine W.bast hF.ex hF.by e0 (zIsA (hF.K.2 1 _ rfl).1 e1 e4) e4.1 (fun q => h1.2 (q.imp id (Nat.le_trans e2.1))) rfl rfl d fun H1 e z oq => ?_
  refine (kk _ h2).2 hF H1 _ cells slots ls (hR.put h1.1.2 z oq ?_ (fun q hq => zsI_o q hq) (fun h6 => by rw [h1.1.1] at h6; cases h6)) hL
  rw [zE_i (t := 1) (zK1 h1.1.1) (by decide)]
  refine zAr.set e e1 e2 e3 e4 (fun q => ?_)
  show Value.int (zup (zI m) a0 _ _ a0 q) = _
  by_cases hq : q = i.toNatClampNeg
  · rw [if_pos hq, hq, zup_s]
    try rfl
  · rw [if_neg hq, zup_k _ _ hq]
theorem g_zast {a : Option Nat} {i v : Int32} {K : zMm → Option α} (d : decode cc pc = .ok (.bastore, 1)) (h : (zast 103 g m a i (vp_nar .boolean v)).bind K = some fin) (kk : ∀ m', K m' = some fin → zG X cc nL own mn fr lo (pc + 1) L st g m') : zG X cc nL own mn fr lo pc L (.int v :: .int i :: va_rf a :: st) g m := by
  obtain ⟨a0, rfl, h1, h2⟩ := zop h
  refine ⟨(kk _ h2).1, fun hF H locs cells slots ls hR hL => ?_⟩
  obtain ⟨cell, e0, ⟨e1, e2, e3⟩, e4⟩ := hR.ai (t := 2) h1.1.1 (by decide)
  refine W.zast hF.ex hF.by e0 (zIsA (hF.K.2 2 _ rfl).1 e1 e4) e4.1 (fun q => h1.2 (q.imp id (Nat.le_trans e2.1))) rfl rfl d fun H1 e z oq => ?_
  refine (kk _ h2).2 hF H1 _ cells slots ls (hR.put h1.1.2 z oq ?_ (fun q hq => zsI_o q hq) (fun h6 => by rw [h1.1.1] at h6; cases h6)) hL
  rw [zE_i (t := 2) (zK1 h1.1.1) (by decide)]
  refine zAr.set e e1 e2 e3 e4 (fun q => ?_)
  show Value.int (zup (zI m) a0 _ _ a0 q) = _
  by_cases hq : q = i.toNatClampNeg
  · rw [if_pos hq, hq, zup_s]
    try rfl
  · rw [if_neg hq, zup_k _ _ hq]
theorem g_last {a : Option Nat} {i : Int32} {v : Int64} {K : zMm → Option α} (d : decode cc pc = .ok (.lastore, 1)) (h : (zastj g m a i v).bind K = some fin) (kk : ∀ m', K m' = some fin → zG X cc nL own mn fr lo (pc + 1) L st g m') : zG X cc nL own mn fr lo pc L (.long v :: .int i :: va_rf a :: st) g m := by
  obtain ⟨a0, rfl, h1, h2⟩ := zop h
  refine ⟨(kk _ h2).1, fun hF H locs cells slots ls hR hL => ?_⟩
  obtain ⟨cell, e0, ⟨e1, e2, e3⟩, e4⟩ := hR.al h1.1.1
  refine W.last hF.ex hF.by e0 (zIsA (hF.K.2 3 _ rfl).1 e1 e4) e4.1 (fun q => h1.2 (q.imp id (Nat.le_trans e2.1))) rfl rfl d fun H1 e z oq => ?_
  refine (kk _ h2).2 hF H1 _ cells slots ls (hR.put h1.1.2 z oq ?_ (fun q hq => zsJ_o q hq) (fun h6 => by rw [h1.1.1] at h6; cases h6)) hL
  rw [zE_l (zK1 h1.1.1)]
  refine zAr.set e e1 e2 e3 e4 (fun q => ?_)
  show Value.long (zup (zJ m) a0 _ _ a0 q) = _
  by_cases hq : q = i.toNatClampNeg
  · rw [if_pos hq, hq, zup_s]
  · rw [if_neg hq, zup_k _ _ hq]
/-- a cell was made -/
theorem zRn.grow {H H1 : Heap} {locs : List Loc} {cells slots n t len : Nat} (hR : zRn X g m H locs cells slots) (hz : H1.size = H.size + 1) (oq : ∀ q : Nat, q < H.size → H1[q]? = H[q]?) (ha : zAt (xD X) (zZ g, zE (xD X) (zgrow g n t len) (zfresh m (zZ g)) (zZ g)) H1) (hm : t = 6 → ∃ cell : Cell, H1[zZ g]? = some cell ∧ (cell.monitor.owner = none ∧ cell.monitor.count = 0) ∧ cell.slots.size = 8) : zRn X (zgrow g n t len) (zfresh m (zZ g)) H1 locs (cells + 1) (slots + n) := by
  obtain ⟨h1, h2, h3, h4, h5⟩ := hR
  refine ⟨h1.grow hz oq ha hm, ⟨Nat.le_trans h2.1 (by omega), fun x k1 k2 => (oq x (Nat.lt_of_lt_of_le k1 h2.1)).trans (h2.2.1 x k1 k2), h2.2.2⟩, ?_, ?_, h5.tr (zLe.grow g n t len)⟩
  · rw [zgrow_Z]; omega
  · rw [zgrow_L]; omega
theorem zRn.room {H : Heap} {locs : List Loc} {cells slots : Nat} {g' : zGd} (hF : zFx X cc nL own mn fr lo) (hR : zRn X g m H locs cells slots) (hl : zLe g' (xf X)) {n k : Nat} (h1 : zZ g + k ≤ zZ g') (h2 : zL g + n ≤ zL g') : cells + k ≤ (xR X).cells ∧ slots + n ≤ (xR X).slots := by
  obtain ⟨-, -, h3, h4, h5⟩ := hR
  have h6 := hl.2.2.1
  have h7 := hl.2.2.2
  have h8 := hF.rc
  omega
theorem g_new {C : String} {T : u_T} {N ci index : Nat} {K : zGd × zMm → Option α} (hc : zCl[ci]? = some (C, T, N)) (hin : ∀ w ∈ u_ws C T N, w ∈ lw_all) (ty0 : Nat → FieldType) (hty0 : ∀ k, k < N → parseFieldDescriptor (T k).2.2.1 = some (ty0 k)) (q1 : Cond.classLink own index C ∈ lw_all) (q2 : Cond.instantiable C (zSl ci) ∈ lw_all) (q3 : Cond.initialized C ∈ lw_all) (hlt : ci < 100 ∧ N = zN ci) (hdef : ∀ j, j < N → defaultValue (ty0 j) = (match zF ci j with | 0 => Value.int 0 | 1 => Value.long 0 | _ => Value.null)) (d : decode cc pc = .ok (.new index, 3)) (h : zlt (znewo g m ci) K = some fin) (kk : ∀ g' m', K (g', m') = some fin → zG X cc nL own mn fr lo (pc + 3) L (va_rf (some (zZ g)) :: st) g' m') : zG X cc nL own mn fr lo pc L st g m := by
  have k0 := kk _ _ h
  refine ⟨(zLe.grow g (zSl ci) (ci + 1) 0).tr k0.1, fun hF H locs cells slots ls hR hL => ?_⟩
  have hroom := zRn.room hF hR k0.1 (k := 1) (n := zSl ci) (Nat.le_refl _) (Nat.le_refl _)
  have hKn := hF.K.1 ci _ hc
  have hsz := hR.1.1
  refine W.newcK hF.ex hF.by hF.ow (hF.ts _ q1) (hF.ts _ q2) (hF.ts _ q3) rfl d hroom.1 hroom.2 hKn.2.1 rfl fun H1 kC hkC e1 z1 o1 => ?_
  rw [hsz]
  refine k0.2 hF H1 locs _ _ ls (hR.grow z1 o1 ?_ (fun h6 => ⟨_, by rw [← hsz]; exact e1, ⟨rfl, rfl⟩, by
    obtain ⟨c1, k1, hc1, hk1, -, -, -, hn6⟩ := Cond.instantiable_spec (hF.ts _ q2)
    cases hc1.symm.trans hKn.2.1
    cases hk1.symm.trans hkC
    have hci : ci = 5 := by omega
    subst hci
    show (Array.map defaultValue kC.instanceTypes).size = 8
    rw [Array.size_map]
    exact hn6⟩)) hL
  rw [zE_o (zgrow_Ks g _ _ _) hlt.1]
  refine ⟨_, hc, ?_⟩
  have hb := (u_born ty0 hF.ts hin hKn hkC e1 hty0)
  rw [hsz] at hb
  refine hb.to (fun j hj => ?_)
  rw [hdef j hj]
  have e2 : vp_V (zFs ci (zfresh m (zZ g)) (zZ g)) j = zV ci (zfresh m (zZ g)) (zZ g) j := by
    show (zFs ci _ _).getD j .null = _
    rw [List.getD_eq_getElem?_getD, zFs_at _ _ (hlt.2 ▸ hj)]; rfl
  rw [e2]
  unfold zV
  rw [zfresh_I, zfresh_J, zfresh_R]
  rfl
theorem g_newa (t : Nat) {ty : FieldType} (ht : zTy8[t]? = some ty) (h3 : t ≤ 3) {atype : ArrayType} (hat : newarray.typeOf atype = ty) (q1 : Cond.arrayClass ty ∈ lw_all) {n : Int32} {K : zGd × zMm → Option α} (d : decode cc pc = .ok (.newarray atype, 2)) (h : (znewa (t + 101) g m n).bind K = some fin) (kk : ∀ g' m', K (g', m') = some fin → zG X cc nL own mn fr lo (pc + 2) L (va_rf (some (zZ g)) :: st) g' m') : zG X cc nL own mn fr lo pc L (.int n :: st) g m := by
  unfold znewa at h
  by_cases hn : ¬ n < 0 ∧ n.toNatClampNeg * 8 ≤ 536870912
  · rw [if_pos hn, Option.bind_some] at h
    have k0 := kk _ _ h
    refine ⟨(zLe.grow g _ _ _).tr k0.1, fun hF H locs cells slots ls hR hL => ?_⟩
    have hroom := zRn.room hF hR k0.1 (k := 1) (n := n.toNatClampNeg) (Nat.le_refl _) (Nat.le_refl _)
    have hsz := hR.1.1
    refine va_newaK hF.ex hF.by (by rw [hat]; exact hF.ts _ q1) rfl d rfl hn.1 rfl ?_ hroom.1 hroom.2 hsz fun H1 cA e1 z1 o1 hAr hNm => ?_
    · rw [hat]
      have hl : t < 8 := (List.getElem?_eq_some_iff.mp ht).1
      match t, h3 with
      | 0, _ => cases ht; show n.toNatClampNeg * 4 ≤ _; omega
      | 1, _ => cases ht; show n.toNatClampNeg * 1 ≤ _; omega
      | 2, _ => cases ht; show n.toNatClampNeg * 1 ≤ _; omega
      | 3, _ => cases ht; show n.toNatClampNeg * 8 ≤ _; omega
    · refine k0.2 hF H1 locs _ _ ls (hR.grow (by rw [hsz]; exact z1) (by rw [hsz]; exact o1) ?_ (fun h6 => by omega)) hL
      have hcA : cA = (xD X).2 t := by
        have hra := (hF.K.2 t _ (zTys_at ht)).2
        rw [hat] at hNm
        match t, h3 with
        | 0, _ => cases ht; exact Option.some.inj (hNm.symm.trans hra)
        | 1, _ => cases ht; exact Option.some.inj (hNm.symm.trans hra)
        | 2, _ => cases ht; exact Option.some.inj (hNm.symm.trans hra)
        | 3, _ => cases ht; exact Option.some.inj (hNm.symm.trans hra)
      rw [hat] at e1
      match t, h3 with
      | 0, _ =>
        cases ht
        rw [zE_i (t := 0) (zgrow_Ks g _ _ _) (by decide), zfresh_I]
        rw [hcA] at e1
        exact zAr.mk e1
      | 1, _ =>
        cases ht
        rw [zE_i (t := 1) (zgrow_Ks g _ _ _) (by decide), zfresh_I]
        rw [hcA] at e1
        exact zAr.mk e1
      | 2, _ =>
        cases ht
        rw [zE_i (t := 2) (zgrow_Ks g _ _ _) (by decide), zfresh_I]
        rw [hcA] at e1
        exact zAr.mk e1
      | 3, _ =>
        cases ht
        rw [zE_l (zgrow_Ks g _ _ _), zfresh_J]
        rw [hcA] at e1
        exact zAr.mk e1
  · rw [if_neg hn] at h; cases h
/-- getstatic -/
theorem g_gets {j : Nat} {C n d0 ref : String} {index : Nat} (hm : (j, C, n, d0) ∈ zZs) (q : Cond.fieldLink own index ref n d0 ∈ lw_all) (hsame : ∀ x, (xs X).fieldFound? C n d0 = some x → (xs X).fieldFound? ref n d0 = some x) (d : decode cc pc = .ok (.getstatic index, 3)) (k : zG X cc nL own mn fr lo (pc + 3) L (va_rf (zS g j) :: st) g m) : zG X cc nL own mn fr lo pc L st g m :=
  ⟨k.1, fun hF H locs cells slots ls hR hL => va_gets hF.ex hF.by (v := va_rf (zS g j)) (A := xA X) (by rw [hR.2.2.2.2.2.1]; exact hF.en.2.2.2.1 _ hm) hR.2.1 hF.ow (hF.ts _ q) hsame d (k.2 hF H locs cells slots ls hR hL)⟩
theorem g_getsi {v : Int32} {C n d0 ref : String} {index : Nat} (hm : (v, C, n, d0) ∈ zZi) (q : Cond.fieldLink own index ref n d0 ∈ lw_all) (hsame : ∀ x, (xs X).fieldFound? C n d0 = some x → (xs X).fieldFound? ref n d0 = some x) (d : decode cc pc = .ok (.getstatic index, 3)) (k : zG X cc nL own mn fr lo (pc + 3) L (.int v :: st) g m) : zG X cc nL own mn fr lo pc L st g m :=
  ⟨k.1, fun hF H locs cells slots ls hR hL => va_gets hF.ex hF.by (v := .int v) (A := xA X) (hF.en.2.2.2.2.1 _ hm) hR.2.1 hF.ow (hF.ts _ q) hsame d (k.2 hF H locs cells slots ls hR hL)⟩
theorem g_ldcS {j : Nat} {tx : String} {index : Nat} (hm : (j, own, index, tx) ∈ zStr) (d : decode cc pc = .ok (.ldc index, 2)) (k : zG X cc nL own mn fr lo (pc + 2) L (va_rf (zS g j) :: st) g m) : zG X cc nL own mn fr lo pc L st g m := by
  refine ⟨k.1, fun hF H locs cells slots ls hR hL => ?_⟩
  obtain ⟨a, e, r⟩ := hF.en.2.2.2.2.2.1 _ hm
  have k2 := k.2 hF H locs cells slots ls hR hL
  rw [hR.2.2.2.2.2.1, e] at k2
  exact va_ldcS hF.ex hF.by hF.ow r d k2
end
