/-! ROWS 4: contracts, entry, returns, calls (printed by gen/rows4.py) -/
set_option maxRecDepth 100000
def zSt (D : zDc) (g : zGd) (m : zMm) (U : State) : Prop := zH D g m U.heap ∧ zEnv D (zB g) (zS g) U U.heap ∧ zB g ≤ zZ g
abbrev zRo (g g' : zGd) (fr lo : Nat) : Room := { frames := fr, cells := zZ g' - zZ g, slots := zL g' - zL g, locals := lo }
/-- CONTRACT: y, called with av in the world (g, m), returns r, and the world is (g', m') -/
def zCT (l : Launch) (y : MethodName) (cc : ByteArray) (maxL : Nat) (ret : Option FieldType) (fr lo : Nat) (g : zGd) (m : zMm) (av : List Value) (r : Option Value) (g' : zGd) (m' : zMm) : Prop :=
  zLe g g' ∧ (l.flags = flags0 → ∀ D : zDc, Met l y (ws_ y cc maxL ret) (zRo g g' fr lo) (va_Pc av (zSt D g m)) (zQc D r g' m' (zB g)) (zZ g' - zZ g) (zL g' - zL g) (fun q => zB g ≤ q))
/-- CONTRACT of a method that returns or throws -/
def zXT (l : Launch) (y : MethodName) (cc : ByteArray) (maxL : Nat) (ret : Option FieldType) (fr lo : Nat) (g : zGd) (m : zMm) (av : List Value) (r : zRs) (g' : zGd) (m' : zMm) : Prop :=
  zLe g g' ∧ (l.flags = flags0 → ∀ D : zDc, vx_Met l y (ws_ y cc maxL ret) (zRo g g' fr lo) (va_Pc av (zSt D g m)) (zQr D r g' m' (zB g)) (zXr D r g' m' (zB g)) (zZ g' - zZ g) (zL g' - zL g) (fun q => zB g ≤ q))
theorem zSt.blind {D : zDc} {g : zGd} {m : zMm} {av : List Value} : FrameBlind (va_Pc av (zSt D g m)) := fun a U gg mk h => ⟨h.1, h.2.1, zEnv.same (s := U) (U := U.calling gg mk a) rfl h.2.2.1, h.2.2.2⟩
theorem zSt.call {X : zCx} {cc : ByteArray} {nL : Nat} {own mn : String} {fr lo : Nat} {g : zGd} {m : zMm} {H : Heap} {locs : List Loc} {cells slots : Nat} (hF : zFx X cc nL own mn fr lo) (hR : zRn X g m H locs cells slots) {U : State} (hU : U.heap = H) (hW : (xs X).WarmedH U.vm) : zSt (xD X) g m U := by
  have hb : zB g = zB (xg X) := hR.2.2.2.2.1
  have hs : zS g = zS (xg X) := hR.2.2.2.2.2.1
  refine ⟨by rw [hU]; exact hR.1, ?_, ?_⟩
  · rw [hU, hb, hs]
    exact (hF.en.kept (fun a k1 k2 => hR.2.1.2.1 a k1 k2)).warm hW
  · rw [hb, ← hR.1.1]
    exact Nat.le_trans (hF.ge _ (Nat.le_refl _)) hR.2.1.1
theorem zla_0 {k : Nat} : lv_args k [] = [] := rfl
theorem zla_i {k : Nat} {x : Int32} {vs : List Value} {l : List (Nat × Value)} (h : lv_args (k + 1) vs = l) : lv_args k (.int x :: vs) = (k, .int x) :: l := by rw [← h]; rfl
theorem zla_l {k : Nat} {x : Int64} {vs : List Value} {l : List (Nat × Value)} (h : lv_args (k + 2) vs = l) : lv_args k (.long x :: vs) = (k, .long x) :: l := by rw [← h]; rfl
theorem zla_r {k : Nat} {x : Option Nat} {vs : List Value} {l : List (Nat × Value)} (h : lv_args (k + 1) vs = l) : lv_args k (va_rf x :: vs) = (k, va_rf x) :: l := by rw [← h]; cases x <;> rfl
theorem zls_0 : (lg_sl []).length = 0 := rfl
theorem zls_i {x : Int32} {vs : List Value} {n : Nat} (h : (lg_sl vs).length = n) : (lg_sl (.int x :: vs)).length = n + 1 := by rw [← h]; simp [lg_sl, Value.category]
theorem zls_l {x : Int64} {vs : List Value} {n : Nat} (h : (lg_sl vs).length = n) : (lg_sl (.long x :: vs)).length = n + 2 := by rw [← h]; simp [lg_sl, Value.category]
theorem zls_r {x : Option Nat} {vs : List Value} {n : Nat} (h : (lg_sl vs).length = n) : (lg_sl (va_rf x :: vs)).length = n + 1 := by rw [← h]; cases x <;> simp [lg_sl, va_rf, Value.category]
/-- a method's entry -/
theorem zCT.of {own mn : String} {l : Launch} {y : MethodName} {cc : ByteArray} {maxL : Nat} {ret : Option FieldType} {fr lo : Nat} {g : zGd} {m : zMm} {av : List Value} {r : Option Value} {g' : zGd} {m' : zMm} (hy : plainFor y = true) (ho1 : y.cls = own) (ho2 : y.name = mn) {L0 : List (Nat × Value)} {n0 : Nat} (hL0 : lv_args 0 av = L0) (hn0 : (lg_sl av).length = n0) (hml0 : n0 ≤ maxL) (body : ∀ X : zCx, xl X = l → xg X = g → xf X = g' → xt X = ret → xr X = .inl r → xn X = m' → zG X cc maxL own mn fr lo 0 L0 [] g m) : zCT l y cc maxL ret fr lo g m av r g' m' := by
  refine ⟨?_, fun hl D => ?_⟩
  · obtain ⟨X, e1, e2, e3, e4, e5⟩ := zCx_ne g g' ret (.inl r) m'
    have h := body ((X.1.1, l, X.1.2.2), X.2) rfl e1 e2 e3 e4 e5
    have h1 := h.1
    have e2' : xf ((X.1.1, l, X.1.2.2), X.2) = g' := e2
    rw [e2'] at h1
    exact h1
  · refine va_MetF (cc := cc) (maxL := maxL) (ret := ret) hy rfl ?_
    intro p e s mi args below meth c s₁ B hmlc hv
    obtain ⟨rfl, hH, hE, hbz⟩ := hv
    have hts := atoms_spec (ws := ws_ y cc maxL ret) B.pre
    have hts : ∀ w ∈ lw_all, w.before _ s = true := fun w h => hts w (List.mem_cons_of_mem _ h)
    have hown : s.vm.findClass own = some mi.cls := ho1 ▸ findClass_of_methodNamed B.named
    have hnm : meth.name = mn := ho2 ▸ (name_of_methodNamed B.named B.method).1
    have K := body ((p, l, e, zRo g g' fr lo, s), (mi, av.toArray, below, meth, c), MQ below (zQc D r g' m' (zB g)) av.toArray s (zZ g' - zZ g) (zL g' - zL g) (fun q => zB g ≤ q), D, g, g', ret, .inl r, m') rfl rfl rfl rfl rfl rfl
    have hF : zFx ((p, l, e, zRo g g' fr lo, s), (mi, av.toArray, below, meth, c), MQ below (zQc D r g' m' (zB g)) av.toArray s (zZ g' - zZ g) (zL g' - zL g) (fun q => zB g ≤ q), D, g, g', ret, .inl r, m') cc maxL own mn fr lo :=
      ⟨B.exec, B.bytes, hmlc, hown, hts, hE, B.notSynchronized, ⟨rfl, rfl⟩, ⟨Nat.le_refl _, Nat.le_refl _⟩, fun q hq => Nat.le_trans hbz (by rw [← hH.1]; exact hq), hl, hnm, B.returns, fun H locs gg k => k⟩
    have hl2 := lv_entry av (n := maxL) (by rw [hn0]; exact hml0)
    rw [hL0] at hl2
    rw [lg_entry_eq]
    exact K.2 hF s.heap [] 0 0 _ ⟨hH, va_S.rf, rfl, rfl, zLe.rf⟩ hl2
theorem zXT.of {own mn : String} {l : Launch} {y : MethodName} {cc : ByteArray} {maxL : Nat} {ret : Option FieldType} {fr lo : Nat} {g : zGd} {m : zMm} {av : List Value} {r : zRs} {g' : zGd} {m' : zMm} (hy : plainName y.cls = true) (ho1 : y.cls = own) (ho2 : y.name = mn) {L0 : List (Nat × Value)} {n0 : Nat} (hL0 : lv_args 0 av = L0) (hn0 : (lg_sl av).length = n0) (hml0 : n0 ≤ maxL) (body : ∀ X : zCx, xl X = l → xg X = g → xf X = g' → xt X = ret → xr X = r → xn X = m' → zG X cc maxL own mn fr lo 0 L0 [] g m) : zXT l y cc maxL ret fr lo g m av r g' m' := by
  refine ⟨?_, fun hl D => ?_⟩
  · obtain ⟨X, e1, e2, e3, e4, e5⟩ := zCx_ne g g' ret r m'
    have h := body ((X.1.1, l, X.1.2.2), X.2) rfl e1 e2 e3 e4 e5
    have h1 := h.1
    have e2' : xf ((X.1.1, l, X.1.2.2), X.2) = g' := e2
    rw [e2'] at h1
    exact h1
  · refine vx_ofW (cc := cc) (maxL := maxL) (ret := ret) hy rfl ?_
    intro p e s mi args below meth c s₁ B hmlc hno hv
    obtain ⟨rfl, hH, hE, hbz⟩ := hv
    have hts := atoms_spec (ws := ws_ y cc maxL ret) B.pre
    have hts : ∀ w ∈ lw_all, w.before _ s = true := fun w h => hts w (List.mem_cons_of_mem _ h)
    have hown : s.vm.findClass own = some mi.cls := ho1 ▸ findClass_of_methodNamed B.named
    have hnm : meth.name = mn := ho2 ▸ (name_of_methodNamed B.named B.method).1
    have K := body ((p, l, e, zRo g g' fr lo, s), (mi, av.toArray, below, meth, c), vx_MQ below (zQr D r g' m' (zB g)) (zXr D r g' m' (zB g)) av.toArray s (zZ g' - zZ g) (zL g' - zL g) (fun q => zB g ≤ q), D, g, g', ret, r, m') rfl rfl rfl rfl rfl rfl
    have hF : zFx ((p, l, e, zRo g g' fr lo, s), (mi, av.toArray, below, meth, c), vx_MQ below (zQr D r g' m' (zB g)) (zXr D r g' m' (zB g)) av.toArray s (zZ g' - zZ g) (zL g' - zL g) (fun q => zB g ≤ q), D, g, g', ret, r, m') cc maxL own mn fr lo := by
      refine ⟨B.exec, B.bytes, hmlc, hown, hts, hE, B.notSynchronized, ⟨rfl, rfl⟩, ⟨Nat.le_refl _, Nat.le_refl _⟩, fun q hq => Nat.le_trans hbz (by rw [← hH.1]; exact hq), hl, hnm, B.returns, ?_⟩
      cases r with
      | inl v => exact fun H locs gg k => vx_ret k
      | inr q => exact ⟨hno, rfl⟩
    have hl2 := lv_entry av (n := maxL) (by rw [hn0]; exact hml0)
    rw [hL0] at hl2
    rw [lg_entry_eq]
    exact K.2 hF s.heap [] 0 0 _ ⟨hH, va_S.rf, rfl, rfl, zLe.rf⟩ hl2
/-- a result of the method: it returns v in the world (g, m) -/
def zRe (X : zCx) (g : zGd) (m : zMm) (v : Option Value) : Prop := xf X = g ∧ xr X = .inl v ∧ xn X = m
def zRt (X : zCx) (g : zGd) (m : zMm) (q : Nat) : Prop := xf X = g ∧ xr X = .inr q ∧ xn X = m
section
variable {X : zCx} {cc : ByteArray} {nL pc fr lo : Nat} {own mn : String} {L : List (Nat × Value)} {st : List Value} {g : zGd} {m : zMm} {α : Type} {fin : α}
theorem zRet {v : Option Value} {st : List Value} (hv : zRe X g m v) (k : zFx X cc nL own mn fr lo → ∀ (H : Heap) (locs : List Loc) (ls : Array Slot), zH (xD X) g m H → va_S (xA X) (xs X).heap H locs → W (xP X) (xl X) (xe X) (xR X) (xs X) (xm X) (xa X) (xb X) (xM X) (xC X) H locs (zZ (xf X) - zZ (xg X)) (zL (xf X) - zL (xg X)) (MQ (xb X) (zQc (xD X) v (xf X) (xn X) (zB (xg X))) (xa X) (xs X) (zZ (xf X) - zZ (xg X)) (zL (xf X) - zL (xg X)) (xA X)) (F0 (xm X) pc ls st)) : zG X cc nL own mn fr lo pc L st g m := by
  obtain ⟨e1, e2, e3⟩ := hv
  refine ⟨by rw [e1]; exact zLe.rf, fun hF H locs cells slots ls hR hL => ?_⟩
  have hf := hF.fi
  unfold zFin at hf
  rw [e2] at hf
  obtain ⟨h1, h2, h3, h4, h5⟩ := hR
  have c1 : cells = zZ (xf X) - zZ (xg X) := by rw [e1]; omega
  have c2 : slots = zL (xf X) - zL (xg X) := by rw [e1]; omega
  rw [c1, c2]
  exact hf H locs _ (k hF H locs ls h1 h2)
theorem g_iret {v : Int32} (d : decode cc pc = .ok (.ireturn, 1)) (ht : xt X = some .int) (hv : zRe X g m (some (.int v))) : zG X cc nL own mn fr lo pc L [.int v] g m :=
  zRet hv (fun hF H locs ls hH hS => W.iret (v := v) hF.ex hF.by (hF.rt.trans ht) (fun t ht hW => ⟨rfl, by rw [ht, hv.1, hv.2.2]; exact hH, hS.F ht⟩) hS.2.2 d hF.lk)
theorem g_zret {v : Int32} {ty : FieldType} (d : decode cc pc = .ok (.ireturn, 1)) (ht : xt X = some ty) (hn : narrow ty (.int v) = .int v) (hv : zRe X g m (some (.int v))) : zG X cc nL own mn fr lo pc L [.int v] g m :=
  zRet hv (fun hF H locs ls hH hS => W.zret (v := v) hF.ex hF.by (hF.rt.trans ht) hn (fun t ht hW => ⟨rfl, by rw [ht, hv.1, hv.2.2]; exact hH, hS.F ht⟩) hS.2.2 d hF.lk)
theorem g_lret {v : Int64} (d : decode cc pc = .ok (.lreturn, 1)) (ht : xt X = some .long) (hv : zRe X g m (some (.long v))) : zG X cc nL own mn fr lo pc L [.long v] g m :=
  zRet hv (fun hF H locs ls hH hS => W.lret (v := v) hF.ex hF.by (hF.rt.trans ht) (fun t ht hW => ⟨rfl, by rw [ht, hv.1, hv.2.2]; exact hH, hS.F ht⟩) hS.2.2 d hF.lk)
theorem g_aret {v : Option Nat} {rt : FieldType} (d : decode cc pc = .ok (.areturn, 1)) (ht : xt X = some rt) (hrt : (∃ n, rt = .object n) ∨ ∃ t, rt = .array t) (hv : zRe X g m (some (va_rf v))) : zG X cc nL own mn fr lo pc L [va_rf v] g m :=
  zRet hv (fun hF H locs ls hH hS => W.aret (v := va_rf v) hF.ex hF.by (hF.rt.trans ht) hrt (va_rf_or v) (fun t ht hW => ⟨rfl, by rw [ht, hv.1, hv.2.2]; exact hH, hS.F ht⟩) hS.2.2 d hF.lk)
theorem g_vret (d : decode cc pc = .ok (.return_, 1)) (ht : xt X = none) (hv : zRe X g m none) : zG X cc nL own mn fr lo pc L [] g m :=
  zRet hv (fun hF H locs ls hH hS => W.vret hF.ex hF.by (hF.rt.trans ht) (fun t ht hW => ⟨rfl, by rw [ht, hv.1, hv.2.2]; exact hH, hS.F ht⟩) hS.2.2 d hF.lk)
/-- a value that is 0 or 1 -/
def zbo (v : Int32) : Option Int32 := if v = 0 ∨ v = 1 then some v else none
def zch (v : Int32) : Option Int32 := if zi2c v = v then some v else none
def zby (v : Int32) : Option Int32 := if zi2b v = v then some v else none
theorem zbo_e {v : Int32} {K : Int32 → Option α} (h : (zbo v).bind K = some fin) : narrow .boolean (.int v) = .int v ∧ K v = some fin := by
  unfold zbo at h
  by_cases hv : v = 0 ∨ v = 1
  · rw [if_pos hv] at h
    refine ⟨?_, h⟩
    rcases hv with e | e <;> subst e <;> rfl
  · rw [if_neg hv] at h; cases h
theorem zch_e {v : Int32} {K : Int32 → Option α} (h : (zch v).bind K = some fin) : narrow .char (.int v) = .int v ∧ K v = some fin := by
  unfold zch at h
  by_cases hv : zi2c v = v
  · rw [if_pos hv] at h
    refine ⟨?_, h⟩
    rw [← hv]
    exact pk_nc v
  · rw [if_neg hv] at h; cases h
theorem zby_e {v : Int32} {K : Int32 → Option α} (h : (zby v).bind K = some fin) : narrow .byte (.int v) = .int v ∧ K v = some fin := by
  unfold zby at h
  by_cases hv : zi2b v = v
  · rw [if_pos hv] at h
    refine ⟨?_, h⟩
    rw [← hv]
    exact pk_nb v
  · rw [if_neg hv] at h; cases h
/-- the words that lie on the stack -/
def zCat (st : List Value) (n : Nat) : Prop := (st.map fun v => v.category).sum = n
theorem zc_0 : zCat [] 0 := rfl
theorem zc_i {st : List Value} {n : Nat} {v : Int32} (h : zCat st n) : zCat (.int v :: st) (n + 1) := by
  unfold zCat at h ⊢; rw [List.map_cons, List.sum_cons, h]; show 1 + n = n + 1; omega
theorem zc_l {st : List Value} {n : Nat} {v : Int64} (h : zCat st n) : zCat (.long v :: st) (n + 2) := by
  unfold zCat at h ⊢; rw [List.map_cons, List.sum_cons, h]; show 2 + n = n + 2; omega
theorem zc_r {st : List Value} {n : Nat} {v : Option Nat} (h : zCat st n) : zCat (va_rf v :: st) (n + 1) := by
  unfold zCat at h ⊢
  rw [List.map_cons, List.sum_cons, h]
  cases v <;> (show 1 + n = n + 1; omega)
theorem zcat_r (v : Option Nat) : (va_rf v).category = 1 := by cases v <;> rfl
theorem zCat.room {st rest : List Value} {n : Nat} {ls : Array Slot} {mi : MethodId} {p1 : Nat} (h : zCat rest n) (hn : n ≤ 8) : 2 * (F0 mi p1 ls st).monitorRoom + (rest.map fun v => v.category).sum ≤ 8 := by
  unfold zCat at h
  rw [h]
  show 2 * 0 + n ≤ 8
  omega
/-- behind a call -/
theorem zRn.after {g' : zGd} {m' : zMm} {H : Heap} {locs L' : List Loc} {cells slots : Nat} {st₀ t T' : State} (hR : zRn X g m H locs cells slots) (hle : zLe g g') (h0 : st₀.heap = H) (e1 : T'.heap = t.heap) (hH : zH (xD X) g' m' t.heap) (hFr : va_F (fun q => zB g ≤ q) st₀ t) (hLf : ∀ q ∈ L', zB g ≤ q.base) : zRn X g' m' T'.heap (locs ++ L') (cells + (zZ g' - zZ g)) (slots + (zL g' - zL g)) := by
  obtain ⟨h1, h2, h3, h4, h5⟩ := hR
  have hb : zB g = zB (xg X) := h5.1
  obtain ⟨hz, hk⟩ := hFr
  rw [h0] at hz hk
  have l1 := hle.2.2.1
  have l2 := hle.2.2.2
  refine ⟨by rw [e1]; exact hH, ⟨Nat.le_trans h2.1 (by rw [e1]; exact hz), fun q k1 k2 => ?_, fun q hq => ?_⟩, by omega, by omega, h5.tr hle⟩
  · rw [e1, hk q (Nat.lt_of_lt_of_le k1 h2.1) (by rw [hb]; exact k2)]
    exact h2.2.1 q k1 k2
  · rcases List.mem_append.mp hq with h | h
    · exact h2.2.2 q h
    · show zB (xg X) ≤ q.base
      rw [← hb]; exact hLf q h
theorem zRun {cells slots n : Nat} {H : Heap} {locs : List Loc} {ls : Array Slot} {g' : zGd} {m' : zMm} {r : Option Value} {a : Array Value} {rest st0 : List Value} (hR : zRn X g m H locs cells slots) (hle : zLe g g') (hr : va_Run (xP X) (xl X) (xe X) (xR X) (xs X) (xm X) (xa X) (xb X) (xM X) (xC X) H locs cells slots (zZ g' - zZ g) (zL g' - zL g) (F0 (xm X) pc ls st0) rest (zQc (xD X) r g' m' (zB g) a) (fun q => zB g ≤ q))
    (k : ∀ (H1 : Heap) (locs1 : List Loc) (c1 s1 : Nat), zRn X g' m' H1 locs1 c1 s1 → zW X H1 locs1 c1 s1 (F0 (xm X) (pc + 3) ls (r.toList ++ rest))) : zW X H locs cells slots (F0 (xm X) pc ls st0) := by
  intro T hT X'
  obtain ⟨v, st₀, t, T', L', h0, X2, hLf, e1, e2, ⟨hv, hH, hFr⟩, st⟩ := hr T hT X'
  cases hv
  obtain ⟨t2, a1, b1⟩ := k T'.heap (locs ++ L') _ _ (hR.after hle h0 e1 hH hFr hLf) T' rfl X2
  exact ⟨t2, st t2 a1, b1⟩
theorem zRun5 {cells slots n : Nat} {H : Heap} {locs : List Loc} {ls : Array Slot} {g' : zGd} {m' : zMm} {r : Option Value} {a : Array Value} {rest st0 : List Value} (hR : zRn X g m H locs cells slots) (hle : zLe g g') (hr : va_Run5 (xP X) (xl X) (xe X) (xR X) (xs X) (xm X) (xa X) (xb X) (xM X) (xC X) H locs cells slots (zZ g' - zZ g) (zL g' - zL g) (F0 (xm X) pc ls st0) rest (zQc (xD X) r g' m' (zB g) a) (fun q => zB g ≤ q))
    (k : ∀ (H1 : Heap) (locs1 : List Loc) (c1 s1 : Nat), zRn X g' m' H1 locs1 c1 s1 → zW X H1 locs1 c1 s1 (F0 (xm X) (pc + 5) ls (r.toList ++ rest))) : zW X H locs cells slots (F0 (xm X) pc ls st0) := by
  intro T hT X'
  obtain ⟨v, st₀, t, T', L', h0, X2, hLf, e1, e2, ⟨hv, hH, hFr⟩, st⟩ := hr T hT X'
  cases hv
  obtain ⟨t2, a1, b1⟩ := k T'.heap (locs ++ L') _ _ (hR.after hle h0 e1 hH hFr hLf) T' rfl X2
  exact ⟨t2, st t2 a1, b1⟩
/-- the receiver's class -/
def zrc {β : Type} (g : zGd) (ci : Nat) (a : Option Nat) (o : Option β) : Option β := a.bind fun a => if (zK g a).1 = ci + 1 then o else none
theorem zrc_e {β : Type} {ci : Nat} {a : Option Nat} {o : Option β} {K : β → Option α} (h : (zrc g ci a o).bind K = some fin) : ∃ a0, a = some a0 ∧ (zK g a0).1 = ci + 1 ∧ o.bind K = some fin := by
  cases a with
  | none => cases h
  | some a0 =>
    unfold zrc at h
    rw [Option.bind_some] at h
    by_cases hp : (zK g a0).1 = ci + 1
    · rw [if_pos hp] at h; exact ⟨a0, rfl, hp, h⟩
    · rw [if_neg hp] at h; cases h
theorem zrc_s {β : Type} {ci a : Nat} {o : Option β} (h : (zK g a).1 = ci + 1) : zrc g ci (some a) o = o := by
  unfold zrc; rw [Option.bind_some, if_pos h]
theorem zRn.recv {H : Heap} {locs : List Loc} {cells slots a ci : Nat} {q : vw_C} (hF : zFx X cc nL own mn fr lo) (hR : zRn X g m H locs cells slots) (h : (zK g a).1 = ci + 1) (hc : zCl[ci]? = some q) (hlt : ci < 100) : ∃ cell : Cell, H[a]? = some cell ∧ cell.vm.isStatics = false ∧ (xs X).vm.findClass q.1 = some cell.cls :=
  va_recv hF.K (hR.at h hlt) (ci := ci) (q0 := 0) hc rfl
/-- a method's own words: asked at every call of it -/
def zHy (y : MethodName) (n : Nat) : Prop := y.cls ≠ "java/lang/invoke/MethodHandle" ∧ y.cls ≠ "java/lang/invoke/VarHandle" ∧ (parseMethodDescriptor y.desc).map (fun d => d.parameters.length) = some n
theorem g_cVRv {σ : Type} (rv : σ → Value) {f : Option σ} {K : σ → Option α} {y : MethodName} {bytes : ByteArray} {maxL fr' lo' index n cn : Nat} {ret : Option FieldType} (As : List Value) {rest st0 : List Value} {a : Option Nat} (ok : ∀ x, f = some x → zCT (xl X) y bytes maxL ret fr' lo' g m (va_rf a :: As) (some (rv x)) g m) {C : String} {T : u_T} {N ci : Nat} (hc : zCl[ci]? = some (C, T, N)) (hlt : ci < 100) (hw : GoodIn lw_all (wsV own index C y (ws_ y bytes maxL ret))) (hyC : y.cls = C) (hy : zHy y n) (hn : As.length = n) (hroom : fr' + 1 ≤ fr ∧ 8 + (maxL + 11) + lo' ≤ lo) (hst : st0 = As.reverse ++ va_rf a :: rest) (hcat : zCat rest cn) (hc8 : cn ≤ 8) (d : decode cc pc = .ok (.invokevirtual index, 3)) (h : (zrc g ci a f).bind K = some fin) (kk : ∀ x, K x = some fin → zG X cc nL own mn fr lo (pc + 3) L (rv x :: rest) g m) : zG X cc nL own mn fr lo pc L st0 g m := by
  obtain ⟨a0, rfl, hk0, h⟩ := zrc_e h
  obtain ⟨x, e0, h2⟩ := zB_e h
  have k0 := kk x h2
  have hct := ok x e0
  refine ⟨hct.1.tr k0.1, fun hF H locs cells slots ls hR hL => ?_⟩
  have hroom2 := zRn.room hF hR k0.1 (k := zZ g - zZ g) (n := zL g - zL g) (by have := hct.1.2.2.1; omega) (by have := hct.1.2.2.2; omega)
  exact zRun (n := 0) hR hct.1 (va_runV (As := As) (rest := rest) (b := a0) ⟨hF.ex, hF.by, hF.ml, hF.ow, hF.ts⟩ (hct.2 hF.fl (xD X)) (cwV n hF.ts hw rfl rfl rfl ⟨hyC, hy⟩ ⟨by rw [hF.ro.1]; exact hroom.1, by rw [hF.ro.2]; exact hroom.2⟩) ⟨zSt.blind, zRn.recv hF hR hk0 hc hlt, fun U hU hW => ⟨rfl, zSt.call hF hR hU hW⟩⟩ rfl hn (hL.1) hst (hcat.room hc8) d hroom2) (fun H1 locs1 c1 s1 hR1 => k0.2 hF H1 locs1 c1 s1 ls hR1 hL)
theorem g_cVRn {f : Option Unit} {K : Unit → Option α} {y : MethodName} {bytes : ByteArray} {maxL fr' lo' index n cn : Nat} {ret : Option FieldType} (As : List Value) {rest st0 : List Value} {a : Option Nat} (ok : ∀ x, f = some x → zCT (xl X) y bytes maxL ret fr' lo' g m (va_rf a :: As) none g m) {C : String} {T : u_T} {N ci : Nat} (hc : zCl[ci]? = some (C, T, N)) (hlt : ci < 100) (hw : GoodIn lw_all (wsV own index C y (ws_ y bytes maxL ret))) (hyC : y.cls = C) (hy : zHy y n) (hn : As.length = n) (hroom : fr' + 1 ≤ fr ∧ 8 + (maxL + 11) + lo' ≤ lo) (hst : st0 = As.reverse ++ va_rf a :: rest) (hcat : zCat rest cn) (hc8 : cn ≤ 8) (d : decode cc pc = .ok (.invokevirtual index, 3)) (h : (zrc g ci a f).bind K = some fin) (kk : ∀ x, K x = some fin → zG X cc nL own mn fr lo (pc + 3) L rest g m) : zG X cc nL own mn fr lo pc L st0 g m := by
  obtain ⟨a0, rfl, hk0, h⟩ := zrc_e h
  obtain ⟨x, e0, h2⟩ := zB_e h
  have k0 := kk x h2
  have hct := ok x e0
  refine ⟨hct.1.tr k0.1, fun hF H locs cells slots ls hR hL => ?_⟩
  have hroom2 := zRn.room hF hR k0.1 (k := zZ g - zZ g) (n := zL g - zL g) (by have := hct.1.2.2.1; omega) (by have := hct.1.2.2.2; omega)
  exact zRun (n := 0) hR hct.1 (va_runV (As := As) (rest := rest) (b := a0) ⟨hF.ex, hF.by, hF.ml, hF.ow, hF.ts⟩ (hct.2 hF.fl (xD X)) (cwV n hF.ts hw rfl rfl rfl ⟨hyC, hy⟩ ⟨by rw [hF.ro.1]; exact hroom.1, by rw [hF.ro.2]; exact hroom.2⟩) ⟨zSt.blind, zRn.recv hF hR hk0 hc hlt, fun U hU hW => ⟨rfl, zSt.call hF hR hU hW⟩⟩ rfl hn (hL.1) hst (hcat.room hc8) d hroom2) (fun H1 locs1 c1 s1 hR1 => k0.2 hF H1 locs1 c1 s1 ls hR1 hL)
theorem g_cVMv {σ : Type} (rv : σ → Value) {f : Option (σ × zMm)} {K : σ × zMm → Option α} {y : MethodName} {bytes : ByteArray} {maxL fr' lo' index n cn : Nat} {ret : Option FieldType} (As : List Value) {rest st0 : List Value} {a : Option Nat} (ok : ∀ x m1, f = some (x, m1) → zCT (xl X) y bytes maxL ret fr' lo' g m (va_rf a :: As) (some (rv x)) g m1) {C : String} {T : u_T} {N ci : Nat} (hc : zCl[ci]? = some (C, T, N)) (hlt : ci < 100) (hw : GoodIn lw_all (wsV own index C y (ws_ y bytes maxL ret))) (hyC : y.cls = C) (hy : zHy y n) (hn : As.length = n) (hroom : fr' + 1 ≤ fr ∧ 8 + (maxL + 11) + lo' ≤ lo) (hst : st0 = As.reverse ++ va_rf a :: rest) (hcat : zCat rest cn) (hc8 : cn ≤ 8) (d : decode cc pc = .ok (.invokevirtual index, 3)) (h : (zrc g ci a f).bind K = some fin) (kk : ∀ x m1, K (x, m1) = some fin → zG X cc nL own mn fr lo (pc + 3) L (rv x :: rest) g m1) : zG X cc nL own mn fr lo pc L st0 g m := by
  obtain ⟨a0, rfl, hk0, h⟩ := zrc_e h
  obtain ⟨⟨x, m1⟩, e0, h2⟩ := zB_e h
  have k0 := kk x m1 h2
  have hct := ok x m1 e0
  refine ⟨hct.1.tr k0.1, fun hF H locs cells slots ls hR hL => ?_⟩
  have hroom2 := zRn.room hF hR k0.1 (k := zZ g - zZ g) (n := zL g - zL g) (by have := hct.1.2.2.1; omega) (by have := hct.1.2.2.2; omega)
  exact zRun (n := 0) hR hct.1 (va_runV (As := As) (rest := rest) (b := a0) ⟨hF.ex, hF.by, hF.ml, hF.ow, hF.ts⟩ (hct.2 hF.fl (xD X)) (cwV n hF.ts hw rfl rfl rfl ⟨hyC, hy⟩ ⟨by rw [hF.ro.1]; exact hroom.1, by rw [hF.ro.2]; exact hroom.2⟩) ⟨zSt.blind, zRn.recv hF hR hk0 hc hlt, fun U hU hW => ⟨rfl, zSt.call hF hR hU hW⟩⟩ rfl hn (hL.1) hst (hcat.room hc8) d hroom2) (fun H1 locs1 c1 s1 hR1 => k0.2 hF H1 locs1 c1 s1 ls hR1 hL)
theorem g_cVMn {f : Option zMm} {K : zMm → Option α} {y : MethodName} {bytes : ByteArray} {maxL fr' lo' index n cn : Nat} {ret : Option FieldType} (As : List Value) {rest st0 : List Value} {a : Option Nat} (ok : ∀ m1, f = some m1 → zCT (xl X) y bytes maxL ret fr' lo' g m (va_rf a :: As) none g m1) {C : String} {T : u_T} {N ci : Nat} (hc : zCl[ci]? = some (C, T, N)) (hlt : ci < 100) (hw : GoodIn lw_all (wsV own index C y (ws_ y bytes maxL ret))) (hyC : y.cls = C) (hy : zHy y n) (hn : As.length = n) (hroom : fr' + 1 ≤ fr ∧ 8 + (maxL + 11) + lo' ≤ lo) (hst : st0 = As.reverse ++ va_rf a :: rest) (hcat : zCat rest cn) (hc8 : cn ≤ 8) (d : decode cc pc = .ok (.invokevirtual index, 3)) (h : (zrc g ci a f).bind K = some fin) (kk : ∀ m1, K m1 = some fin → zG X cc nL own mn fr lo (pc + 3) L rest g m1) : zG X cc nL own mn fr lo pc L st0 g m := by
  obtain ⟨a0, rfl, hk0, h⟩ := zrc_e h
  obtain ⟨m1, e0, h2⟩ := zB_e h
  have k0 := kk m1 h2
  have hct := ok m1 e0
  refine ⟨hct.1.tr k0.1, fun hF H locs cells slots ls hR hL => ?_⟩
  have hroom2 := zRn.room hF hR k0.1 (k := zZ g - zZ g) (n := zL g - zL g) (by have := hct.1.2.2.1; omega) (by have := hct.1.2.2.2; omega)
  exact zRun (n := 0) hR hct.1 (va_runV (As := As) (rest := rest) (b := a0) ⟨hF.ex, hF.by, hF.ml, hF.ow, hF.ts⟩ (hct.2 hF.fl (xD X)) (cwV n hF.ts hw rfl rfl rfl ⟨hyC, hy⟩ ⟨by rw [hF.ro.1]; exact hroom.1, by rw [hF.ro.2]; exact hroom.2⟩) ⟨zSt.blind, zRn.recv hF hR hk0 hc hlt, fun U hU hW => ⟨rfl, zSt.call hF hR hU hW⟩⟩ rfl hn (hL.1) hst (hcat.room hc8) d hroom2) (fun H1 locs1 c1 s1 hR1 => k0.2 hF H1 locs1 c1 s1 ls hR1 hL)
theorem g_cVAv {σ : Type} (rv : σ → Value) {f : Option (σ × zGd × zMm)} {K : σ × zGd × zMm → Option α} {y : MethodName} {bytes : ByteArray} {maxL fr' lo' index n cn : Nat} {ret : Option FieldType} (As : List Value) {rest st0 : List Value} {a : Option Nat} (ok : ∀ x g1 m1, f = some (x, g1, m1) → zCT (xl X) y bytes maxL ret fr' lo' g m (va_rf a :: As) (some (rv x)) g1 m1) {C : String} {T : u_T} {N ci : Nat} (hc : zCl[ci]? = some (C, T, N)) (hlt : ci < 100) (hw : GoodIn lw_all (wsV own index C y (ws_ y bytes maxL ret))) (hyC : y.cls = C) (hy : zHy y n) (hn : As.length = n) (hroom : fr' + 1 ≤ fr ∧ 8 + (maxL + 11) + lo' ≤ lo) (hst : st0 = As.reverse ++ va_rf a :: rest) (hcat : zCat rest cn) (hc8 : cn ≤ 8) (d : decode cc pc = .ok (.invokevirtual index, 3)) (h : (zrc g ci a f).bind K = some fin) (kk : ∀ x g1 m1, K (x, g1, m1) = some fin → zG X cc nL own mn fr lo (pc + 3) L (rv x :: rest) g1 m1) : zG X cc nL own mn fr lo pc L st0 g m := by
  obtain ⟨a0, rfl, hk0, h⟩ := zrc_e h
  obtain ⟨⟨x, g1, m1⟩, e0, h2⟩ := zB_e h
  have k0 := kk x g1 m1 h2
  have hct := ok x g1 m1 e0
  refine ⟨hct.1.tr k0.1, fun hF H locs cells slots ls hR hL => ?_⟩
  have hroom2 := zRn.room hF hR k0.1 (k := zZ g1 - zZ g) (n := zL g1 - zL g) (by have := hct.1.2.2.1; omega) (by have := hct.1.2.2.2; omega)
  exact zRun (n := 0) hR hct.1 (va_runV (As := As) (rest := rest) (b := a0) ⟨hF.ex, hF.by, hF.ml, hF.ow, hF.ts⟩ (hct.2 hF.fl (xD X)) (cwV n hF.ts hw rfl rfl rfl ⟨hyC, hy⟩ ⟨by rw [hF.ro.1]; exact hroom.1, by rw [hF.ro.2]; exact hroom.2⟩) ⟨zSt.blind, zRn.recv hF hR hk0 hc hlt, fun U hU hW => ⟨rfl, zSt.call hF hR hU hW⟩⟩ rfl hn (hL.1) hst (hcat.room hc8) d hroom2) (fun H1 locs1 c1 s1 hR1 => k0.2 hF H1 locs1 c1 s1 ls hR1 hL)
theorem g_cVAn {f : Option (zGd × zMm)} {K : zGd × zMm → Option α} {y : MethodName} {bytes : ByteArray} {maxL fr' lo' index n cn : Nat} {ret : Option FieldType} (As : List Value) {rest st0 : List Value} {a : Option Nat} (ok : ∀ g1 m1, f = some (g1, m1) → zCT (xl X) y bytes maxL ret fr' lo' g m (va_rf a :: As) none g1 m1) {C : String} {T : u_T} {N ci : Nat} (hc : zCl[ci]? = some (C, T, N)) (hlt : ci < 100) (hw : GoodIn lw_all (wsV own index C y (ws_ y bytes maxL ret))) (hyC : y.cls = C) (hy : zHy y n) (hn : As.length = n) (hroom : fr' + 1 ≤ fr ∧ 8 + (maxL + 11) + lo' ≤ lo) (hst : st0 = As.reverse ++ va_rf a :: rest) (hcat : zCat rest cn) (hc8 : cn ≤ 8) (d : decode cc pc = .ok (.invokevirtual index, 3)) (h : (zrc g ci a f).bind K = some fin) (kk : ∀ g1 m1, K (g1, m1) = some fin → zG X cc nL own mn fr lo (pc + 3) L rest g1 m1) : zG X cc nL own mn fr lo pc L st0 g m := by
  obtain ⟨a0, rfl, hk0, h⟩ := zrc_e h
  obtain ⟨⟨g1, m1⟩, e0, h2⟩ := zB_e h
  have k0 := kk g1 m1 h2
  have hct := ok g1 m1 e0
  refine ⟨hct.1.tr k0.1, fun hF H locs cells slots ls hR hL => ?_⟩
  have hroom2 := zRn.room hF hR k0.1 (k := zZ g1 - zZ g) (n := zL g1 - zL g) (by have := hct.1.2.2.1; omega) (by have := hct.1.2.2.2; omega)
  exact zRun (n := 0) hR hct.1 (va_runV (As := As) (rest := rest) (b := a0) ⟨hF.ex, hF.by, hF.ml, hF.ow, hF.ts⟩ (hct.2 hF.fl (xD X)) (cwV n hF.ts hw rfl rfl rfl ⟨hyC, hy⟩ ⟨by rw [hF.ro.1]; exact hroom.1, by rw [hF.ro.2]; exact hroom.2⟩) ⟨zSt.blind, zRn.recv hF hR hk0 hc hlt, fun U hU hW => ⟨rfl, zSt.call hF hR hU hW⟩⟩ rfl hn (hL.1) hst (hcat.room hc8) d hroom2) (fun H1 locs1 c1 s1 hR1 => k0.2 hF H1 locs1 c1 s1 ls hR1 hL)
theorem g_cSRv {σ : Type} (rv : σ → Value) {f : Option σ} {K : σ → Option α} {y : MethodName} {bytes : ByteArray} {maxL fr' lo' index n cn : Nat} {ret : Option FieldType} (As : List Value) {rest st0 : List Value} (ok : ∀ x, f = some x → zCT (xl X) y bytes maxL ret fr' lo' g m As (some (rv x)) g m) (hw : GoodIn lw_all (va_wsS own index y (ws_ y bytes maxL ret))) (hy : zHy y n) (hn : As.length = n) (hroom : fr' + 1 ≤ fr ∧ 8 + (maxL + 11) + lo' ≤ lo) (hst : st0 = As.reverse ++ rest) (hcat : zCat rest cn) (hc8 : cn ≤ 8) (d : decode cc pc = .ok (.invokestatic index, 3)) (h : f.bind K = some fin) (kk : ∀ x, K x = some fin → zG X cc nL own mn fr lo (pc + 3) L (rv x :: rest) g m) : zG X cc nL own mn fr lo pc L st0 g m := by
  obtain ⟨x, e0, h2⟩ := zB_e h
  have k0 := kk x h2
  have hct := ok x e0
  refine ⟨hct.1.tr k0.1, fun hF H locs cells slots ls hR hL => ?_⟩
  have hroom2 := zRn.room hF hR k0.1 (k := zZ g - zZ g) (n := zL g - zL g) (by have := hct.1.2.2.1; omega) (by have := hct.1.2.2.2; omega)
  exact zRun (n := 0) hR hct.1 (va_runS (As := As) (rest := rest) ⟨hF.ex, hF.by, hF.ml, hF.ow, hF.ts⟩ (hct.2 hF.fl (xD X)) (va_cwS n hF.ts hw rfl rfl rfl hy ⟨by rw [hF.ro.1]; exact hroom.1, by rw [hF.ro.2]; exact hroom.2⟩) ⟨zSt.blind, fun U hU hW => ⟨rfl, zSt.call hF hR hU hW⟩⟩ rfl hn (hL.1) hst (hcat.room hc8) d hroom2) (fun H1 locs1 c1 s1 hR1 => k0.2 hF H1 locs1 c1 s1 ls hR1 hL)
theorem g_cSRn {f : Option Unit} {K : Unit → Option α} {y : MethodName} {bytes : ByteArray} {maxL fr' lo' index n cn : Nat} {ret : Option FieldType} (As : List Value) {rest st0 : List Value} (ok : ∀ x, f = some x → zCT (xl X) y bytes maxL ret fr' lo' g m As none g m) (hw : GoodIn lw_all (va_wsS own index y (ws_ y bytes maxL ret))) (hy : zHy y n) (hn : As.length = n) (hroom : fr' + 1 ≤ fr ∧ 8 + (maxL + 11) + lo' ≤ lo) (hst : st0 = As.reverse ++ rest) (hcat : zCat rest cn) (hc8 : cn ≤ 8) (d : decode cc pc = .ok (.invokestatic index, 3)) (h : f.bind K = some fin) (kk : ∀ x, K x = some fin → zG X cc nL own mn fr lo (pc + 3) L rest g m) : zG X cc nL own mn fr lo pc L st0 g m := by
  obtain ⟨x, e0, h2⟩ := zB_e h
  have k0 := kk x h2
  have hct := ok x e0
  refine ⟨hct.1.tr k0.1, fun hF H locs cells slots ls hR hL => ?_⟩
  have hroom2 := zRn.room hF hR k0.1 (k := zZ g - zZ g) (n := zL g - zL g) (by have := hct.1.2.2.1; omega) (by have := hct.1.2.2.2; omega)
  exact zRun (n := 0) hR hct.1 (va_runS (As := As) (rest := rest) ⟨hF.ex, hF.by, hF.ml, hF.ow, hF.ts⟩ (hct.2 hF.fl (xD X)) (va_cwS n hF.ts hw rfl rfl rfl hy ⟨by rw [hF.ro.1]; exact hroom.1, by rw [hF.ro.2]; exact hroom.2⟩) ⟨zSt.blind, fun U hU hW => ⟨rfl, zSt.call hF hR hU hW⟩⟩ rfl hn (hL.1) hst (hcat.room hc8) d hroom2) (fun H1 locs1 c1 s1 hR1 => k0.2 hF H1 locs1 c1 s1 ls hR1 hL)
theorem g_cSMv {σ : Type} (rv : σ → Value) {f : Option (σ × zMm)} {K : σ × zMm → Option α} {y : MethodName} {bytes : ByteArray} {maxL fr' lo' index n cn : Nat} {ret : Option FieldType} (As : List Value) {rest st0 : List Value} (ok : ∀ x m1, f = some (x, m1) → zCT (xl X) y bytes maxL ret fr' lo' g m As (some (rv x)) g m1) (hw : GoodIn lw_all (va_wsS own index y (ws_ y bytes maxL ret))) (hy : zHy y n) (hn : As.length = n) (hroom : fr' + 1 ≤ fr ∧ 8 + (maxL + 11) + lo' ≤ lo) (hst : st0 = As.reverse ++ rest) (hcat : zCat rest cn) (hc8 : cn ≤ 8) (d : decode cc pc = .ok (.invokestatic index, 3)) (h : f.bind K = some fin) (kk : ∀ x m1, K (x, m1) = some fin → zG X cc nL own mn fr lo (pc + 3) L (rv x :: rest) g m1) : zG X cc nL own mn fr lo pc L st0 g m := by
  obtain ⟨⟨x, m1⟩, e0, h2⟩ := zB_e h
  have k0 := kk x m1 h2
  have hct := ok x m1 e0
  refine ⟨hct.1.tr k0.1, fun hF H locs cells slots ls hR hL => ?_⟩
  have hroom2 := zRn.room hF hR k0.1 (k := zZ g - zZ g) (n := zL g - zL g) (by have := hct.1.2.2.1; omega) (by have := hct.1.2.2.2; omega)
  exact zRun (n := 0) hR hct.1 (va_runS (As := As) (rest := rest) ⟨hF.ex, hF.by, hF.ml, hF.ow, hF.ts⟩ (hct.2 hF.fl (xD X)) (va_cwS n hF.ts hw rfl rfl rfl hy ⟨by rw [hF.ro.1]; exact hroom.1, by rw [hF.ro.2]; exact hroom.2⟩) ⟨zSt.blind, fun U hU hW => ⟨rfl, zSt.call hF hR hU hW⟩⟩ rfl hn (hL.1) hst (hcat.room hc8) d hroom2) (fun H1 locs1 c1 s1 hR1 => k0.2 hF H1 locs1 c1 s1 ls hR1 hL)
theorem g_cSMn {f : Option zMm} {K : zMm → Option α} {y : MethodName} {bytes : ByteArray} {maxL fr' lo' index n cn : Nat} {ret : Option FieldType} (As : List Value) {rest st0 : List Value} (ok : ∀ m1, f = some m1 → zCT (xl X) y bytes maxL ret fr' lo' g m As none g m1) (hw : GoodIn lw_all (va_wsS own index y (ws_ y bytes maxL ret))) (hy : zHy y n) (hn : As.length = n) (hroom : fr' + 1 ≤ fr ∧ 8 + (maxL + 11) + lo' ≤ lo) (hst : st0 = As.reverse ++ rest) (hcat : zCat rest cn) (hc8 : cn ≤ 8) (d : decode cc pc = .ok (.invokestatic index, 3)) (h : f.bind K = some fin) (kk : ∀ m1, K m1 = some fin → zG X cc nL own mn fr lo (pc + 3) L rest g m1) : zG X cc nL own mn fr lo pc L st0 g m := by
  obtain ⟨m1, e0, h2⟩ := zB_e h
  have k0 := kk m1 h2
  have hct := ok m1 e0
  refine ⟨hct.1.tr k0.1, fun hF H locs cells slots ls hR hL => ?_⟩
  have hroom2 := zRn.room hF hR k0.1 (k := zZ g - zZ g) (n := zL g - zL g) (by have := hct.1.2.2.1; omega) (by have := hct.1.2.2.2; omega)
  exact zRun (n := 0) hR hct.1 (va_runS (As := As) (rest := rest) ⟨hF.ex, hF.by, hF.ml, hF.ow, hF.ts⟩ (hct.2 hF.fl (xD X)) (va_cwS n hF.ts hw rfl rfl rfl hy ⟨by rw [hF.ro.1]; exact hroom.1, by rw [hF.ro.2]; exact hroom.2⟩) ⟨zSt.blind, fun U hU hW => ⟨rfl, zSt.call hF hR hU hW⟩⟩ rfl hn (hL.1) hst (hcat.room hc8) d hroom2) (fun H1 locs1 c1 s1 hR1 => k0.2 hF H1 locs1 c1 s1 ls hR1 hL)
theorem g_cSAv {σ : Type} (rv : σ → Value) {f : Option (σ × zGd × zMm)} {K : σ × zGd × zMm → Option α} {y : MethodName} {bytes : ByteArray} {maxL fr' lo' index n cn : Nat} {ret : Option FieldType} (As : List Value) {rest st0 : List Value} (ok : ∀ x g1 m1, f = some (x, g1, m1) → zCT (xl X) y bytes maxL ret fr' lo' g m As (some (rv x)) g1 m1) (hw : GoodIn lw_all (va_wsS own index y (ws_ y bytes maxL ret))) (hy : zHy y n) (hn : As.length = n) (hroom : fr' + 1 ≤ fr ∧ 8 + (maxL + 11) + lo' ≤ lo) (hst : st0 = As.reverse ++ rest) (hcat : zCat rest cn) (hc8 : cn ≤ 8) (d : decode cc pc = .ok (.invokestatic index, 3)) (h : f.bind K = some fin) (kk : ∀ x g1 m1, K (x, g1, m1) = some fin → zG X cc nL own mn fr lo (pc + 3) L (rv x :: rest) g1 m1) : zG X cc nL own mn fr lo pc L st0 g m := by
  obtain ⟨⟨x, g1, m1⟩, e0, h2⟩ := zB_e h
  have k0 := kk x g1 m1 h2
  have hct := ok x g1 m1 e0
  refine ⟨hct.1.tr k0.1, fun hF H locs cells slots ls hR hL => ?_⟩
  have hroom2 := zRn.room hF hR k0.1 (k := zZ g1 - zZ g) (n := zL g1 - zL g) (by have := hct.1.2.2.1; omega) (by have := hct.1.2.2.2; omega)
  exact zRun (n := 0) hR hct.1 (va_runS (As := As) (rest := rest) ⟨hF.ex, hF.by, hF.ml, hF.ow, hF.ts⟩ (hct.2 hF.fl (xD X)) (va_cwS n hF.ts hw rfl rfl rfl hy ⟨by rw [hF.ro.1]; exact hroom.1, by rw [hF.ro.2]; exact hroom.2⟩) ⟨zSt.blind, fun U hU hW => ⟨rfl, zSt.call hF hR hU hW⟩⟩ rfl hn (hL.1) hst (hcat.room hc8) d hroom2) (fun H1 locs1 c1 s1 hR1 => k0.2 hF H1 locs1 c1 s1 ls hR1 hL)
theorem g_cSAn {f : Option (zGd × zMm)} {K : zGd × zMm → Option α} {y : MethodName} {bytes : ByteArray} {maxL fr' lo' index n cn : Nat} {ret : Option FieldType} (As : List Value) {rest st0 : List Value} (ok : ∀ g1 m1, f = some (g1, m1) → zCT (xl X) y bytes maxL ret fr' lo' g m As none g1 m1) (hw : GoodIn lw_all (va_wsS own index y (ws_ y bytes maxL ret))) (hy : zHy y n) (hn : As.length = n) (hroom : fr' + 1 ≤ fr ∧ 8 + (maxL + 11) + lo' ≤ lo) (hst : st0 = As.reverse ++ rest) (hcat : zCat rest cn) (hc8 : cn ≤ 8) (d : decode cc pc = .ok (.invokestatic index, 3)) (h : f.bind K = some fin) (kk : ∀ g1 m1, K (g1, m1) = some fin → zG X cc nL own mn fr lo (pc + 3) L rest g1 m1) : zG X cc nL own mn fr lo pc L st0 g m := by
  obtain ⟨⟨g1, m1⟩, e0, h2⟩ := zB_e h
  have k0 := kk g1 m1 h2
  have hct := ok g1 m1 e0
  refine ⟨hct.1.tr k0.1, fun hF H locs cells slots ls hR hL => ?_⟩
  have hroom2 := zRn.room hF hR k0.1 (k := zZ g1 - zZ g) (n := zL g1 - zL g) (by have := hct.1.2.2.1; omega) (by have := hct.1.2.2.2; omega)
  exact zRun (n := 0) hR hct.1 (va_runS (As := As) (rest := rest) ⟨hF.ex, hF.by, hF.ml, hF.ow, hF.ts⟩ (hct.2 hF.fl (xD X)) (va_cwS n hF.ts hw rfl rfl rfl hy ⟨by rw [hF.ro.1]; exact hroom.1, by rw [hF.ro.2]; exact hroom.2⟩) ⟨zSt.blind, fun U hU hW => ⟨rfl, zSt.call hF hR hU hW⟩⟩ rfl hn (hL.1) hst (hcat.room hc8) d hroom2) (fun H1 locs1 c1 s1 hR1 => k0.2 hF H1 locs1 c1 s1 ls hR1 hL)
theorem g_cSNMv {σ : Type} (rv : σ → Value) {f : Option (σ × zMm)} {K : σ × zMm → Option α} {y : MethodName} {bytes : ByteArray} {maxL fr' lo' index n cn : Nat} {ret : Option FieldType} (As : List Value) {rest st0 : List Value} (ok : ∀ x m1, f = some (x, m1) → zCT (xl X) y bytes maxL ret fr' lo' g m As (some (rv x)) g m1) {host : String} (hG : GoodIn lw_all (ws_ y bytes maxL ret)) (q1 : Cond.initialized y.cls ∈ lw_all) (q2 : Cond.methodLinkNest own index y host ∈ lw_tbl) (q3 : Cond.static y ∈ lw_all) (hy : zHy y n) (hn : As.length = n) (hroom : fr' + 1 ≤ fr ∧ 8 + (maxL + 11) + lo' ≤ lo) (hst : st0 = As.reverse ++ rest) (hcat : zCat rest cn) (hc8 : cn ≤ 8) (d : decode cc pc = .ok (.invokestatic index, 3)) (h : f.bind K = some fin) (kk : ∀ x m1, K (x, m1) = some fin → zG X cc nL own mn fr lo (pc + 3) L (rv x :: rest) g m1) : zG X cc nL own mn fr lo pc L st0 g m := by
  obtain ⟨⟨x, m1⟩, e0, h2⟩ := zB_e h
  have k0 := kk x m1 h2
  have hct := ok x m1 e0
  refine ⟨hct.1.tr k0.1, fun hF H locs cells slots ls hR hL => ?_⟩
  have hroom2 := zRn.room hF hR k0.1 (k := zZ g - zZ g) (n := zL g - zL g) (by have := hct.1.2.2.1; omega) (by have := hct.1.2.2.2; omega)
  exact zRun (n := 0) hR hct.1 (va_runSN (As := As) (rest := rest) ⟨hF.ex, hF.by, hF.ml, hF.ow, hF.ts⟩ (hct.2 hF.fl (xD X)) ⟨va_cnB n hF.ts hG rfl rfl rfl (hF.N.2.1 _ _ _ _ q2) (hF.ts _ q1) hy ⟨by rw [hF.ro.1]; exact hroom.1, by rw [hF.ro.2]; exact hroom.2⟩, hF.ts _ q3, trivial⟩ ⟨zSt.blind, fun U hU hW => ⟨rfl, zSt.call hF hR hU hW⟩⟩ rfl hn (hL.1) hst (hcat.room hc8) d hroom2) (fun H1 locs1 c1 s1 hR1 => k0.2 hF H1 locs1 c1 s1 ls hR1 hL)
theorem g_cSNMn {f : Option zMm} {K : zMm → Option α} {y : MethodName} {bytes : ByteArray} {maxL fr' lo' index n cn : Nat} {ret : Option FieldType} (As : List Value) {rest st0 : List Value} (ok : ∀ m1, f = some m1 → zCT (xl X) y bytes maxL ret fr' lo' g m As none g m1) {host : String} (hG : GoodIn lw_all (ws_ y bytes maxL ret)) (q1 : Cond.initialized y.cls ∈ lw_all) (q2 : Cond.methodLinkNest own index y host ∈ lw_tbl) (q3 : Cond.static y ∈ lw_all) (hy : zHy y n) (hn : As.length = n) (hroom : fr' + 1 ≤ fr ∧ 8 + (maxL + 11) + lo' ≤ lo) (hst : st0 = As.reverse ++ rest) (hcat : zCat rest cn) (hc8 : cn ≤ 8) (d : decode cc pc = .ok (.invokestatic index, 3)) (h : f.bind K = some fin) (kk : ∀ m1, K m1 = some fin → zG X cc nL own mn fr lo (pc + 3) L rest g m1) : zG X cc nL own mn fr lo pc L st0 g m := by
  obtain ⟨m1, e0, h2⟩ := zB_e h
  have k0 := kk m1 h2
  have hct := ok m1 e0
  refine ⟨hct.1.tr k0.1, fun hF H locs cells slots ls hR hL => ?_⟩
  have hroom2 := zRn.room hF hR k0.1 (k := zZ g - zZ g) (n := zL g - zL g) (by have := hct.1.2.2.1; omega) (by have := hct.1.2.2.2; omega)
  exact zRun (n := 0) hR hct.1 (va_runSN (As := As) (rest := rest) ⟨hF.ex, hF.by, hF.ml, hF.ow, hF.ts⟩ (hct.2 hF.fl (xD X)) ⟨va_cnB n hF.ts hG rfl rfl rfl (hF.N.2.1 _ _ _ _ q2) (hF.ts _ q1) hy ⟨by rw [hF.ro.1]; exact hroom.1, by rw [hF.ro.2]; exact hroom.2⟩, hF.ts _ q3, trivial⟩ ⟨zSt.blind, fun U hU hW => ⟨rfl, zSt.call hF hR hU hW⟩⟩ rfl hn (hL.1) hst (hcat.room hc8) d hroom2) (fun H1 locs1 c1 s1 hR1 => k0.2 hF H1 locs1 c1 s1 ls hR1 hL)
theorem g_cIRn {f : Option Unit} {K : Unit → Option α} {y : MethodName} {bytes : ByteArray} {maxL fr' lo' index n cn : Nat} (As : List Value) {rest st0 : List Value} {a : Option Nat} (ok : ∀ x, f = some x → zCT (xl X) y bytes maxL none fr' lo' g m (va_rf a :: As) none g m) (hG : GoodIn lw_all (ws_ y bytes maxL none)) (q1 : Cond.initialized y.cls ∈ lw_all) (q2 : Cond.methodLink own index y ∈ lw_all) (q3 : Cond.instanceMethod y ∈ lw_all) (hi : y.name = "<init>") (hy : zHy y n) (hn : As.length = n) (hroom : fr' + 1 ≤ fr ∧ 8 + (maxL + 11) + lo' ≤ lo) (hst : st0 = As.reverse ++ va_rf a :: rest) (hcat : zCat rest cn) (hc8 : cn ≤ 8) (hs : ∃ a0, a = some a0) (d : decode cc pc = .ok (.invokespecial index, 3)) (h : f.bind K = some fin) (kk : ∀ x, K x = some fin → zG X cc nL own mn fr lo (pc + 3) L rest g m) : zG X cc nL own mn fr lo pc L st0 g m := by
  obtain ⟨a0, rfl⟩ := hs
  obtain ⟨x, e0, h2⟩ := zB_e h
  have k0 := kk x h2
  have hct := ok x e0
  refine ⟨hct.1.tr k0.1, fun hF H locs cells slots ls hR hL => ?_⟩
  have hroom2 := zRn.room hF hR k0.1 (k := zZ g - zZ g) (n := zL g - zL g) (by have := hct.1.2.2.1; omega) (by have := hct.1.2.2.2; omega)
  exact zRun (n := 0) hR hct.1 (va_runI (As := As) (rest := rest) (b := a0) ⟨hF.ex, hF.by, hF.ml, hF.ow, hF.ts⟩ (hct.2 hF.fl (xD X)) (cwI n hF.ts hG rfl rfl rfl (hF.ts _ q1) (hF.ts _ q2) (hF.ts _ q3) hi hy ⟨by rw [hF.ro.1]; exact hroom.1, by rw [hF.ro.2]; exact hroom.2⟩) ⟨zSt.blind, fun U hU hW => ⟨rfl, zSt.call hF hR hU hW⟩⟩ rfl hn (hL.1) hst (hcat.room hc8) d hroom2) (fun H1 locs1 c1 s1 hR1 => k0.2 hF H1 locs1 c1 s1 ls hR1 hL)
theorem g_cIMn {f : Option zMm} {K : zMm → Option α} {y : MethodName} {bytes : ByteArray} {maxL fr' lo' index n cn : Nat} (As : List Value) {rest st0 : List Value} {a : Option Nat} (ok : ∀ m1, f = some m1 → zCT (xl X) y bytes maxL none fr' lo' g m (va_rf a :: As) none g m1) (hG : GoodIn lw_all (ws_ y bytes maxL none)) (q1 : Cond.initialized y.cls ∈ lw_all) (q2 : Cond.methodLink own index y ∈ lw_all) (q3 : Cond.instanceMethod y ∈ lw_all) (hi : y.name = "<init>") (hy : zHy y n) (hn : As.length = n) (hroom : fr' + 1 ≤ fr ∧ 8 + (maxL + 11) + lo' ≤ lo) (hst : st0 = As.reverse ++ va_rf a :: rest) (hcat : zCat rest cn) (hc8 : cn ≤ 8) (hs : ∃ a0, a = some a0) (d : decode cc pc = .ok (.invokespecial index, 3)) (h : f.bind K = some fin) (kk : ∀ m1, K m1 = some fin → zG X cc nL own mn fr lo (pc + 3) L rest g m1) : zG X cc nL own mn fr lo pc L st0 g m := by
  obtain ⟨a0, rfl⟩ := hs
  obtain ⟨m1, e0, h2⟩ := zB_e h
  have k0 := kk m1 h2
  have hct := ok m1 e0
  refine ⟨hct.1.tr k0.1, fun hF H locs cells slots ls hR hL => ?_⟩
  have hroom2 := zRn.room hF hR k0.1 (k := zZ g - zZ g) (n := zL g - zL g) (by have := hct.1.2.2.1; omega) (by have := hct.1.2.2.2; omega)
  exact zRun (n := 0) hR hct.1 (va_runI (As := As) (rest := rest) (b := a0) ⟨hF.ex, hF.by, hF.ml, hF.ow, hF.ts⟩ (hct.2 hF.fl (xD X)) (cwI n hF.ts hG rfl rfl rfl (hF.ts _ q1) (hF.ts _ q2) (hF.ts _ q3) hi hy ⟨by rw [hF.ro.1]; exact hroom.1, by rw [hF.ro.2]; exact hroom.2⟩) ⟨zSt.blind, fun U hU hW => ⟨rfl, zSt.call hF hR hU hW⟩⟩ rfl hn (hL.1) hst (hcat.room hc8) d hroom2) (fun H1 locs1 c1 s1 hR1 => k0.2 hF H1 locs1 c1 s1 ls hR1 hL)
theorem g_cIAn {f : Option (zGd × zMm)} {K : zGd × zMm → Option α} {y : MethodName} {bytes : ByteArray} {maxL fr' lo' index n cn : Nat} (As : List Value) {rest st0 : List Value} {a : Option Nat} (ok : ∀ g1 m1, f = some (g1, m1) → zCT (xl X) y bytes maxL none fr' lo' g m (va_rf a :: As) none g1 m1) (hG : GoodIn lw_all (ws_ y bytes maxL none)) (q1 : Cond.initialized y.cls ∈ lw_all) (q2 : Cond.methodLink own index y ∈ lw_all) (q3 : Cond.instanceMethod y ∈ lw_all) (hi : y.name = "<init>") (hy : zHy y n) (hn : As.length = n) (hroom : fr' + 1 ≤ fr ∧ 8 + (maxL + 11) + lo' ≤ lo) (hst : st0 = As.reverse ++ va_rf a :: rest) (hcat : zCat rest cn) (hc8 : cn ≤ 8) (hs : ∃ a0, a = some a0) (d : decode cc pc = .ok (.invokespecial index, 3)) (h : f.bind K = some fin) (kk : ∀ g1 m1, K (g1, m1) = some fin → zG X cc nL own mn fr lo (pc + 3) L rest g1 m1) : zG X cc nL own mn fr lo pc L st0 g m := by
  obtain ⟨a0, rfl⟩ := hs
  obtain ⟨⟨g1, m1⟩, e0, h2⟩ := zB_e h
  have k0 := kk g1 m1 h2
  have hct := ok g1 m1 e0
  refine ⟨hct.1.tr k0.1, fun hF H locs cells slots ls hR hL => ?_⟩
  have hroom2 := zRn.room hF hR k0.1 (k := zZ g1 - zZ g) (n := zL g1 - zL g) (by have := hct.1.2.2.1; omega) (by have := hct.1.2.2.2; omega)
  exact zRun (n := 0) hR hct.1 (va_runI (As := As) (rest := rest) (b := a0) ⟨hF.ex, hF.by, hF.ml, hF.ow, hF.ts⟩ (hct.2 hF.fl (xD X)) (cwI n hF.ts hG rfl rfl rfl (hF.ts _ q1) (hF.ts _ q2) (hF.ts _ q3) hi hy ⟨by rw [hF.ro.1]; exact hroom.1, by rw [hF.ro.2]; exact hroom.2⟩) ⟨zSt.blind, fun U hU hW => ⟨rfl, zSt.call hF hR hU hW⟩⟩ rfl hn (hL.1) hst (hcat.room hc8) d hroom2) (fun H1 locs1 c1 s1 hR1 => k0.2 hF H1 locs1 c1 s1 ls hR1 hL)
theorem g_cINRn {f : Option Unit} {K : Unit → Option α} {y : MethodName} {bytes : ByteArray} {maxL fr' lo' index n cn : Nat} (As : List Value) {rest st0 : List Value} {a : Option Nat} (ok : ∀ x, f = some x → zCT (xl X) y bytes maxL none fr' lo' g m (va_rf a :: As) none g m) {host : String} (hG : GoodIn lw_all (ws_ y bytes maxL none)) (q1 : Cond.initialized y.cls ∈ lw_all) (q2 : Cond.methodLinkNest own index y host ∈ lw_tbl) (q3 : Cond.instanceMethod y ∈ lw_all) (hi : y.name = "<init>") (hy : zHy y n) (hn : As.length = n) (hroom : fr' + 1 ≤ fr ∧ 8 + (maxL + 11) + lo' ≤ lo) (hst : st0 = As.reverse ++ va_rf a :: rest) (hcat : zCat rest cn) (hc8 : cn ≤ 8) (hs : ∃ a0, a = some a0) (d : decode cc pc = .ok (.invokespecial index, 3)) (h : f.bind K = some fin) (kk : ∀ x, K x = some fin → zG X cc nL own mn fr lo (pc + 3) L rest g m) : zG X cc nL own mn fr lo pc L st0 g m := by
  obtain ⟨a0, rfl⟩ := hs
  obtain ⟨x, e0, h2⟩ := zB_e h
  have k0 := kk x h2
  have hct := ok x e0
  refine ⟨hct.1.tr k0.1, fun hF H locs cells slots ls hR hL => ?_⟩
  have hroom2 := zRn.room hF hR k0.1 (k := zZ g - zZ g) (n := zL g - zL g) (by have := hct.1.2.2.1; omega) (by have := hct.1.2.2.2; omega)
  exact zRun (n := 0) hR hct.1 (va_runIN (As := As) (rest := rest) (b := a0) ⟨hF.ex, hF.by, hF.ml, hF.ow, hF.ts⟩ (hct.2 hF.fl (xD X)) ⟨va_cnB n hF.ts hG rfl rfl rfl (hF.N.2.1 _ _ _ _ q2) (hF.ts _ q1) hy ⟨by rw [hF.ro.1]; exact hroom.1, by rw [hF.ro.2]; exact hroom.2⟩, hi, hF.ts _ q3⟩ ⟨zSt.blind, fun U hU hW => ⟨rfl, zSt.call hF hR hU hW⟩⟩ rfl hn (hL.1) hst (hcat.room hc8) d hroom2) (fun H1 locs1 c1 s1 hR1 => k0.2 hF H1 locs1 c1 s1 ls hR1 hL)
theorem g_cINMn {f : Option zMm} {K : zMm → Option α} {y : MethodName} {bytes : ByteArray} {maxL fr' lo' index n cn : Nat} (As : List Value) {rest st0 : List Value} {a : Option Nat} (ok : ∀ m1, f = some m1 → zCT (xl X) y bytes maxL none fr' lo' g m (va_rf a :: As) none g m1) {host : String} (hG : GoodIn lw_all (ws_ y bytes maxL none)) (q1 : Cond.initialized y.cls ∈ lw_all) (q2 : Cond.methodLinkNest own index y host ∈ lw_tbl) (q3 : Cond.instanceMethod y ∈ lw_all) (hi : y.name = "<init>") (hy : zHy y n) (hn : As.length = n) (hroom : fr' + 1 ≤ fr ∧ 8 + (maxL + 11) + lo' ≤ lo) (hst : st0 = As.reverse ++ va_rf a :: rest) (hcat : zCat rest cn) (hc8 : cn ≤ 8) (hs : ∃ a0, a = some a0) (d : decode cc pc = .ok (.invokespecial index, 3)) (h : f.bind K = some fin) (kk : ∀ m1, K m1 = some fin → zG X cc nL own mn fr lo (pc + 3) L rest g m1) : zG X cc nL own mn fr lo pc L st0 g m := by
  obtain ⟨a0, rfl⟩ := hs
  obtain ⟨m1, e0, h2⟩ := zB_e h
  have k0 := kk m1 h2
  have hct := ok m1 e0
  refine ⟨hct.1.tr k0.1, fun hF H locs cells slots ls hR hL => ?_⟩
  have hroom2 := zRn.room hF hR k0.1 (k := zZ g - zZ g) (n := zL g - zL g) (by have := hct.1.2.2.1; omega) (by have := hct.1.2.2.2; omega)
  exact zRun (n := 0) hR hct.1 (va_runIN (As := As) (rest := rest) (b := a0) ⟨hF.ex, hF.by, hF.ml, hF.ow, hF.ts⟩ (hct.2 hF.fl (xD X)) ⟨va_cnB n hF.ts hG rfl rfl rfl (hF.N.2.1 _ _ _ _ q2) (hF.ts _ q1) hy ⟨by rw [hF.ro.1]; exact hroom.1, by rw [hF.ro.2]; exact hroom.2⟩, hi, hF.ts _ q3⟩ ⟨zSt.blind, fun U hU hW => ⟨rfl, zSt.call hF hR hU hW⟩⟩ rfl hn (hL.1) hst (hcat.room hc8) d hroom2) (fun H1 locs1 c1 s1 hR1 => k0.2 hF H1 locs1 c1 s1 ls hR1 hL)
theorem g_cINAn {f : Option (zGd × zMm)} {K : zGd × zMm → Option α} {y : MethodName} {bytes : ByteArray} {maxL fr' lo' index n cn : Nat} (As : List Value) {rest st0 : List Value} {a : Option Nat} (ok : ∀ g1 m1, f = some (g1, m1) → zCT (xl X) y bytes maxL none fr' lo' g m (va_rf a :: As) none g1 m1) {host : String} (hG : GoodIn lw_all (ws_ y bytes maxL none)) (q1 : Cond.initialized y.cls ∈ lw_all) (q2 : Cond.methodLinkNest own index y host ∈ lw_tbl) (q3 : Cond.instanceMethod y ∈ lw_all) (hi : y.name = "<init>") (hy : zHy y n) (hn : As.length = n) (hroom : fr' + 1 ≤ fr ∧ 8 + (maxL + 11) + lo' ≤ lo) (hst : st0 = As.reverse ++ va_rf a :: rest) (hcat : zCat rest cn) (hc8 : cn ≤ 8) (hs : ∃ a0, a = some a0) (d : decode cc pc = .ok (.invokespecial index, 3)) (h : f.bind K = some fin) (kk : ∀ g1 m1, K (g1, m1) = some fin → zG X cc nL own mn fr lo (pc + 3) L rest g1 m1) : zG X cc nL own mn fr lo pc L st0 g m := by
  obtain ⟨a0, rfl⟩ := hs
  obtain ⟨⟨g1, m1⟩, e0, h2⟩ := zB_e h
  have k0 := kk g1 m1 h2
  have hct := ok g1 m1 e0
  refine ⟨hct.1.tr k0.1, fun hF H locs cells slots ls hR hL => ?_⟩
  have hroom2 := zRn.room hF hR k0.1 (k := zZ g1 - zZ g) (n := zL g1 - zL g) (by have := hct.1.2.2.1; omega) (by have := hct.1.2.2.2; omega)
  exact zRun (n := 0) hR hct.1 (va_runIN (As := As) (rest := rest) (b := a0) ⟨hF.ex, hF.by, hF.ml, hF.ow, hF.ts⟩ (hct.2 hF.fl (xD X)) ⟨va_cnB n hF.ts hG rfl rfl rfl (hF.N.2.1 _ _ _ _ q2) (hF.ts _ q1) hy ⟨by rw [hF.ro.1]; exact hroom.1, by rw [hF.ro.2]; exact hroom.2⟩, hi, hF.ts _ q3⟩ ⟨zSt.blind, fun U hU hW => ⟨rfl, zSt.call hF hR hU hW⟩⟩ rfl hn (hL.1) hst (hcat.room hc8) d hroom2) (fun H1 locs1 c1 s1 hR1 => k0.2 hF H1 locs1 c1 s1 ls hR1 hL)
theorem g_oinit {index : Nat} {a : Option Nat} {cn : Nat} (q1 : Cond.methodLink own index Lib.objectInit ∈ lw_all) (q2 : Cond.instanceMethod Lib.objectInit ∈ lw_all) (q3 : Cond.code Lib.objectInit ⟨#[0xb1]⟩ 1 none ∈ lw_all) (hs : ∃ a0, a = some a0) (hcat : zCat st cn) (hc8 : cn ≤ 8) (hroom : 1 ≤ fr ∧ 20 ≤ lo) (d : decode cc pc = .ok (.invokespecial index, 3)) (k : zG X cc nL own mn fr lo (pc + 3) L st g m) : zG X cc nL own mn fr lo pc L (va_rf a :: st) g m := by
  obtain ⟨a0, rfl⟩ := hs
  refine ⟨k.1, fun hF H locs cells slots ls hR hL => ?_⟩
  refine W.objInit hF.ex hF.by hF.ow (hF.ts _ q1) (hF.ts _ q2) (hF.ts _ q3) rfl (by rw [hF.ml]; exact hL.1) rfl d (by rw [hF.ro.1]; exact hroom.1) (by rw [hF.ro.2]; unfold zCat at hcat; rw [hcat]; show 2 * 0 + cn + 12 ≤ lo; omega) ?_
  exact k.2 hF H locs cells slots ls hR hL
end
