/-! ROWS 10: throwing, calls that may throw, catching (printed by gen/rows10.py) -/
set_option maxRecDepth 100000
/-- a call that may throw: what is done when it throws, what when it returns -/
def zXd {β α : Type} (g : zGd) (ci : Nat) (a : Option Nat) (f : Option (β ⊕ (Nat × zGd × zMm))) (kt : Nat × zGd × zMm → Option α) (K : β → Option α) : Option α := a.bind fun a0 => if (zK g a0).1 = ci + 1 then f.bind (fun r => match r with | .inl x => K x | .inr q => if (zK q.2.1 q.1).1 = 6 then kt q else none) else none
theorem zXd_e {β α : Type} {g : zGd} {ci : Nat} {a : Option Nat} {f : Option (β ⊕ (Nat × zGd × zMm))} {kt : Nat × zGd × zMm → Option α} {K : β → Option α} {fin : α} (h : zXd g ci a f kt K = some fin) : ∃ a0, a = some a0 ∧ (zK g a0).1 = ci + 1 ∧ ((∃ x, f = some (.inl x) ∧ K x = some fin) ∨ ∃ q, f = some (.inr q) ∧ (zK q.2.1 q.1).1 = 6 ∧ kt q = some fin) := by
  cases a with
  | none => cases h
  | some a0 =>
    unfold zXd at h
    rw [Option.bind_some] at h
    by_cases hp : (zK g a0).1 = ci + 1
    · rw [if_pos hp] at h
      obtain ⟨r, e, h2⟩ := zB_e h
      refine ⟨a0, rfl, hp, ?_⟩
      cases r with
      | inl x => exact Or.inl ⟨x, e, h2⟩
      | inr q =>
        dsimp only at h2
        by_cases h6 : (zK q.2.1 q.1).1 = 6
        · rw [if_pos h6] at h2; exact Or.inr ⟨q, e, h6, h2⟩
        · rw [if_neg h6] at h2; cases h2
    · rw [if_neg hp] at h; cases h
def zthr (g : zGd) (a : Option Nat) : Option Nat := a.bind fun a => if (zK g a).1 = 6 then some a else none
def zGX (X : zCx) (cc : ByteArray) (nL : Nat) (own mn : String) (fr lo pc : Nat) (L : List (Nat × Value)) (g : zGd) (m : zMm) (q : Nat) : Prop :=
  zLe g (xf X) ∧ (zFx X cc nL own mn fr lo → ∀ (H : Heap) (locs : List Loc) (cells slots : Nat) (ls : Array Slot) (rest : List Value), zRn X g m H locs cells slots → lv_has ls nL L → vx_W (xP X) (xl X) (xe X) (xR X) (xs X) (xm X) (xa X) (xb X) (xM X) (xC X) H locs cells slots (xQ X) (F0 (xm X) pc ls rest) q)
section
variable {X : zCx} {cc : ByteArray} {nL pc fr lo : Nat} {own mn : String} {L : List (Nat × Value)} {st : List Value} {g : zGd} {m : zMm} {α : Type} {fin : α}
theorem zRn.wrong {H : Heap} {locs : List Loc} {cells slots q : Nat} (hF : zFx X cc nL own mn fr lo) (hR : zRn X g m H locs cells slots) (hk : (zK g q).1 = 6) : ∃ ce : Cell, H[q]? = some ce ∧ ce.vm = .none ∧ (xs X).vm.findClass RX5 = some ce.cls := by
  obtain ⟨r, e1, cell, c1, c2, c3, c4⟩ := hR.at (ci := 5) hk (by decide) 0 _ rfl
  refine ⟨cell, c1, c3, ?_⟩
  rw [c2]
  exact (hF.K.1 5 _ zc5).2.1
theorem g_out {q : Nat} (hv : zRt X g m q) (hk : (zK g q).1 = 6) : zGX X cc nL own mn fr lo pc L g m q := by
  obtain ⟨e1, e2, e3⟩ := hv
  refine ⟨by rw [e1]; exact zLe.rf, fun hF H locs cells slots ls rest hR hL => ?_⟩
  have hf := hF.fi
  unfold zFin at hf
  rw [e2] at hf
  obtain ⟨hno, hQ⟩ := hf
  obtain ⟨ce, w1, w2, w3⟩ := hR.wrong hF hk
  obtain ⟨h1, h2, h3, h4, h5⟩ := hR
  rw [hQ]
  exact vx_out (fun x hx => (hno x hx).elim) hF.lk w1 w2 w3 (fun t ht hA => ⟨rfl, rfl, by rw [ht, e1, e3]; exact h1, h2.F ht⟩) h2.2.2 (by rw [e1]; omega) (by rw [e1]; omega)
theorem g_athrow {a : Option Nat} {K : Nat → Option α} (d : decode cc pc = .ok (.athrow, 1)) (h : (zthr g a).bind K = some fin) (kk : ∀ q, (zK g q).1 = 6 → K q = some fin → zGX X cc nL own mn fr lo pc L g m q) : zG X cc nL own mn fr lo pc L (va_rf a :: st) g m := by
  obtain ⟨a0, rfl, h1, h2⟩ := zop h
  have k0 := kk a0 h1 h2
  exact ⟨k0.1, fun hF H locs cells slots ls hR hL => vx_athrow hF.ex hF.by d (k0.2 hF H locs cells slots ls st hR hL)⟩
theorem zRunX {cells slots : Nat} {H : Heap} {locs : List Loc} {ls : Array Slot} {g' : zGd} {m' : zMm} {r : zRs} {a : Array Value} {rest st0 : List Value} (hR : zRn X g m H locs cells slots) (hle : zLe g g') (hr : vx_Run (xP X) (xl X) (xe X) (xR X) (xs X) (xm X) (xa X) (xb X) (xM X) (xC X) H locs cells slots (zZ g' - zZ g) (zL g' - zL g) (F0 (xm X) pc ls st0) rest (zQr (xD X) r g' m' (zB g) a) (zXr (xD X) r g' m' (zB g)) (fun q => zB g ≤ q))
    (k1 : ∀ v, r = .inl v → ∀ (H1 : Heap) (locs1 : List Loc) (c1 s1 : Nat), zRn X g' m' H1 locs1 c1 s1 → zW X H1 locs1 c1 s1 (F0 (xm X) (pc + 3) ls (v.toList ++ rest)))
    (k2 : ∀ q, r = .inr q → ∀ (H1 : Heap) (locs1 : List Loc) (c1 s1 : Nat), zRn X g' m' H1 locs1 c1 s1 → vx_W (xP X) (xl X) (xe X) (xR X) (xs X) (xm X) (xa X) (xb X) (xM X) (xC X) H1 locs1 c1 s1 (xQ X) (F0 (xm X) pc ls rest) q) : zW X H locs cells slots (F0 (xm X) pc ls st0) := by
  intro T hT X'
  rcases hr T hT X' with ⟨v, st₀, t, T', L', h0, X2, hLf, e1, e2, hq, st⟩ | ⟨q, st₀, t, T', L', E, ce, h0, X2, hLf, e1, e2, hx, -, -, -, st⟩
  · cases r with
    | inr q => exact hq.elim
    | inl w =>
      obtain ⟨hv, hH, hFr⟩ := hq
      cases hv
      obtain ⟨t2, a1, b1⟩ := k1 _ rfl T'.heap (locs ++ L') _ _ (hR.after hle h0 e1 hH hFr hLf) T' rfl X2
      exact ⟨t2, st t2 a1, b1⟩
  · cases r with
    | inl w => exact hx.elim
    | inr q2 =>
      obtain ⟨-, rfl, hH, hFr⟩ := hx
      obtain ⟨t2, a1, b1⟩ := k2 _ rfl T'.heap (locs ++ L') _ _ (hR.after hle h0 e1 hH hFr hLf) T' rfl X2
      exact ⟨t2, st.trans a1, b1⟩
/-- what a method that may throw answers, as its contract says it -/
def zAns {σ : Type} (rs : σ → Option Value) (r : (σ × zGd × zMm) ⊕ (Nat × zGd × zMm)) : zRs × zGd × zMm := match r with
  | .inl x => (.inl (rs x.1), x.2.1, x.2.2)
  | .inr q => (.inr q.1, q.2.1, q.2.2)
def zCTX {σ : Type} (l : Launch) (y : MethodName) (cc : ByteArray) (maxL : Nat) (ret : Option FieldType) (fr lo : Nat) (g : zGd) (m : zMm) (av : List Value) (rs : σ → Option Value) (r : (σ × zGd × zMm) ⊕ (Nat × zGd × zMm)) : Prop := zXT l y cc maxL ret fr lo g m av (zAns rs r).1 (zAns rs r).2.1 (zAns rs r).2.2
theorem g_xVv {σ : Type} (rv : σ → Value) {f : Option ((σ × zGd × zMm) ⊕ (Nat × zGd × zMm))} {K : σ × zGd × zMm → Option α} {kt : Nat × zGd × zMm → Option α} {y : MethodName} {bytes : ByteArray} {maxL fr' lo' index n cn : Nat} {ret : Option FieldType} (As : List Value) {rest st0 : List Value} {a : Option Nat} (ok : ∀ r, f = some r → zCTX (xl X) y bytes maxL ret fr' lo' g m (va_rf a :: As) (fun x => some (rv x)) r) {C : String} {T : u_T} {N ci : Nat} (hc : zCl[ci]? = some (C, T, N)) (hlt : ci < 100) (hw : GoodIn lw_all (wsV own index C y (ws_ y bytes maxL ret))) (hyC : y.cls = C) (hy : zHy y n) (hn : As.length = n) (hroom : fr' + 1 ≤ fr ∧ 8 + (maxL + 11) + lo' ≤ lo) (hst : st0 = As.reverse ++ va_rf a :: rest) (hcat : zCat rest cn) (hc8 : cn ≤ 8) (d : decode cc pc = .ok (.invokevirtual index, 3)) (h : zXd g ci a f kt K = some fin) (kk : ∀ x g1 m1, K (x, g1, m1) = some fin → zG X cc nL own mn fr lo (pc + 3) L (rv x :: rest) g1 m1) (kx : ∀ q g1 m1, (zK g1 q).1 = 6 → kt (q, g1, m1) = some fin → zGX X cc nL own mn fr lo pc L g1 m1 q) : zG X cc nL own mn fr lo pc L st0 g m := by
  obtain ⟨a0, rfl, hk0, h⟩ := zXd_e h
  rcases h with ⟨⟨x, g1, m1⟩, e0, h2⟩ | ⟨⟨q, g1, m1⟩, e0, h6, h2⟩
  · have k0 := kk x g1 m1 h2
    have hct := ok _ e0
    unfold zCTX at hct
    refine ⟨hct.1.tr k0.1, fun hF H locs cells slots ls hR hL => ?_⟩
    have hroom2 := zRn.room hF hR k0.1 (k := zZ g1 - zZ g) (n := zL g1 - zL g) (by have := hct.1.2.2.1; dsimp only [zAns] at this; omega) (by have := hct.1.2.2.2; dsimp only [zAns] at this; omega)
    exact zRunX hR hct.1 (vx_runV (As := As) (rest := rest) (b := a0) ⟨hF.ex, hF.by, hF.ml, hF.ow, hF.ts⟩ (hct.2 hF.fl (xD X)) (cwV n hF.ts hw rfl rfl rfl ⟨hyC, hy⟩ ⟨by rw [hF.ro.1]; exact hroom.1, by rw [hF.ro.2]; exact hroom.2⟩) ⟨zSt.blind, zRn.recv hF hR hk0 hc hlt, fun U hU hW => ⟨rfl, zSt.call hF hR hU hW⟩⟩ rfl hn (hL.1) hst (hcat.room hc8) d hroom2)
      (fun v ev H1 locs1 c1 s1 hR1 => by cases ev; exact k0.2 hF H1 locs1 c1 s1 ls hR1 hL) (fun q ev => by cases ev)
  · have k0 := kx q g1 m1 h6 h2
    have hct := ok _ e0
    unfold zCTX at hct
    refine ⟨hct.1.tr k0.1, fun hF H locs cells slots ls hR hL => ?_⟩
    have hroom2 := zRn.room hF hR k0.1 (k := zZ g1 - zZ g) (n := zL g1 - zL g) (by have := hct.1.2.2.1; dsimp only [zAns] at this; omega) (by have := hct.1.2.2.2; dsimp only [zAns] at this; omega)
    exact zRunX hR hct.1 (vx_runV (As := As) (rest := rest) (b := a0) ⟨hF.ex, hF.by, hF.ml, hF.ow, hF.ts⟩ (hct.2 hF.fl (xD X)) (cwV n hF.ts hw rfl rfl rfl ⟨hyC, hy⟩ ⟨by rw [hF.ro.1]; exact hroom.1, by rw [hF.ro.2]; exact hroom.2⟩) ⟨zSt.blind, zRn.recv hF hR hk0 hc hlt, fun U hU hW => ⟨rfl, zSt.call hF hR hU hW⟩⟩ rfl hn (hL.1) hst (hcat.room hc8) d hroom2)
      (fun v ev => by cases ev) (fun q ev H1 locs1 c1 s1 hR1 => by cases ev; exact k0.2 hF H1 locs1 c1 s1 ls rest hR1 hL)
theorem g_xVn  {f : Option ((Unit × zGd × zMm) ⊕ (Nat × zGd × zMm))} {K : Unit × zGd × zMm → Option α} {kt : Nat × zGd × zMm → Option α} {y : MethodName} {bytes : ByteArray} {maxL fr' lo' index n cn : Nat} {ret : Option FieldType} (As : List Value) {rest st0 : List Value} {a : Option Nat} (ok : ∀ r, f = some r → zCTX (xl X) y bytes maxL ret fr' lo' g m (va_rf a :: As) (fun _ : Unit => none) r) {C : String} {T : u_T} {N ci : Nat} (hc : zCl[ci]? = some (C, T, N)) (hlt : ci < 100) (hw : GoodIn lw_all (wsV own index C y (ws_ y bytes maxL ret))) (hyC : y.cls = C) (hy : zHy y n) (hn : As.length = n) (hroom : fr' + 1 ≤ fr ∧ 8 + (maxL + 11) + lo' ≤ lo) (hst : st0 = As.reverse ++ va_rf a :: rest) (hcat : zCat rest cn) (hc8 : cn ≤ 8) (d : decode cc pc = .ok (.invokevirtual index, 3)) (h : zXd g ci a f kt K = some fin) (kk : ∀ x g1 m1, K (x, g1, m1) = some fin → zG X cc nL own mn fr lo (pc + 3) L rest g1 m1) (kx : ∀ q g1 m1, (zK g1 q).1 = 6 → kt (q, g1, m1) = some fin → zGX X cc nL own mn fr lo pc L g1 m1 q) : zG X cc nL own mn fr lo pc L st0 g m := by
  obtain ⟨a0, rfl, hk0, h⟩ := zXd_e h
  rcases h with ⟨⟨x, g1, m1⟩, e0, h2⟩ | ⟨⟨q, g1, m1⟩, e0, h6, h2⟩
  · have k0 := kk x g1 m1 h2
    have hct := ok _ e0
    unfold zCTX at hct
    refine ⟨hct.1.tr k0.1, fun hF H locs cells slots ls hR hL => ?_⟩
    have hroom2 := zRn.room hF hR k0.1 (k := zZ g1 - zZ g) (n := zL g1 - zL g) (by have := hct.1.2.2.1; dsimp only [zAns] at this; omega) (by have := hct.1.2.2.2; dsimp only [zAns] at this; omega)
    exact zRunX hR hct.1 (vx_runV (As := As) (rest := rest) (b := a0) ⟨hF.ex, hF.by, hF.ml, hF.ow, hF.ts⟩ (hct.2 hF.fl (xD X)) (cwV n hF.ts hw rfl rfl rfl ⟨hyC, hy⟩ ⟨by rw [hF.ro.1]; exact hroom.1, by rw [hF.ro.2]; exact hroom.2⟩) ⟨zSt.blind, zRn.recv hF hR hk0 hc hlt, fun U hU hW => ⟨rfl, zSt.call hF hR hU hW⟩⟩ rfl hn (hL.1) hst (hcat.room hc8) d hroom2)
      (fun v ev H1 locs1 c1 s1 hR1 => by cases ev; exact k0.2 hF H1 locs1 c1 s1 ls hR1 hL) (fun q ev => by cases ev)
  · have k0 := kx q g1 m1 h6 h2
    have hct := ok _ e0
    unfold zCTX at hct
    refine ⟨hct.1.tr k0.1, fun hF H locs cells slots ls hR hL => ?_⟩
    have hroom2 := zRn.room hF hR k0.1 (k := zZ g1 - zZ g) (n := zL g1 - zL g) (by have := hct.1.2.2.1; dsimp only [zAns] at this; omega) (by have := hct.1.2.2.2; dsimp only [zAns] at this; omega)
    exact zRunX hR hct.1 (vx_runV (As := As) (rest := rest) (b := a0) ⟨hF.ex, hF.by, hF.ml, hF.ow, hF.ts⟩ (hct.2 hF.fl (xD X)) (cwV n hF.ts hw rfl rfl rfl ⟨hyC, hy⟩ ⟨by rw [hF.ro.1]; exact hroom.1, by rw [hF.ro.2]; exact hroom.2⟩) ⟨zSt.blind, zRn.recv hF hR hk0 hc hlt, fun U hU hW => ⟨rfl, zSt.call hF hR hU hW⟩⟩ rfl hn (hL.1) hst (hcat.room hc8) d hroom2)
      (fun v ev => by cases ev) (fun q ev H1 locs1 c1 s1 hR1 => by cases ev; exact k0.2 hF H1 locs1 c1 s1 ls rest hR1 hL)
/-- the first handler of the table takes a Wrong -/
theorem g_catch {q : Nat} {tab : List ExceptionTableEntry} {x : ExceptionTableEntry} (hk : (zK g q).1 = 6) (ht : (xC X).exceptionTable.toList = x :: tab) (hx : covers x pc = true) (h0 : x.catchType ≠ 0) (hlink : Cond.classLink own x.catchType RX5 ∈ lw_all) (kk : zG X cc nL own mn fr lo x.handlerPc L [va_rf (some q)] g m) : zGX X cc nL own mn fr lo pc L g m q := by
  refine ⟨kk.1, fun hF H locs cells slots ls rest hR hL => ?_⟩
  obtain ⟨ce, w1, w2, w3⟩ := hR.wrong hF hk
  exact vx_catch hF.ow [] x tab ht (fun z hz => nomatch hz) hx h0 (hF.ts _ hlink) (va_Nw.use rfl (hF.N.2.2.1 _ _ q494)) w1 w2 w3 (kk.2 hF H locs cells slots ls hR hL)
end
/-- CONTRACT of a method with a table of handlers -/
def zCTW (l : Launch) (y : MethodName) (cc : ByteArray) (maxL : Nat) (ret : Option FieldType) (hh : List (Nat × Nat × Nat × Nat)) (fr lo : Nat) (g : zGd) (m : zMm) (av : List Value) (r : Option Value) (g' : zGd) (m' : zMm) : Prop :=
  zLe g g' ∧ (l.flags = flags0 → ∀ D : zDc, Met l y (wsW_ y cc maxL ret hh) (zRo g g' fr lo) (va_Pc av (zSt D g m)) (zQc D r g' m' (zB g)) (zZ g' - zZ g) (zL g' - zL g) (fun q => zB g ≤ q))

theorem zMetW {l : Launch} {y : MethodName} {ws ws' : List Cond} {rm : Room} {Pc : Array Value → State → Prop} {Qc : Array Value → State → Outcome → State → Prop} {mc ms : Nat} {free : Addr → Prop} {cc : ByteArray} {maxL : Nat} {ret : Option FieldType} {hh : List (Nat × Nat × Nat × Nat)}
    (hy : plainFor y = true) (hw : ws = Cond.codeWith y cc maxL ret hh :: ws')
    (body : ∀ p e s m args below meth c s₁, BodyLoose p l y (headSpec ws rm) cc maxL ret e s m args below meth c s₁ → c.maxLocals = maxL → Pc args s →
      W p l e (headSpec ws rm).room s m args below meth c s.heap [] 0 0 (MQ below Qc args s mc ms free) (entryFrame m args maxL)) : Met l y ws rm Pc Qc mc ms free := by
  refine MetFree.of_bodySF (code := cc) (maxLocals := maxL) (ret := ret) hy ?_ ?_
  · intro args s m h hn
    obtain ⟨m9, meth, c, hn9, h1, h2, h3, h4, -, h5, h6, -⟩ := Cond.codeWith_spec (atoms_spec (ws := ws) h _ (by rw [hw]; exact List.mem_cons_self))
    cases hn.symm.trans hn9
    exact ⟨meth, c, h1, h2, h3, h4, h5, h6⟩
  · intro p e s m args below meth c s₁ B hml hP _
    have hh0 : s₁.heap = s.heap := by rw [B.state]; rfl
    obtain ⟨t, a1, o, b1, b2, b3⟩ := body p e s m args below meth c s₁ B hml hP s₁ hh0 (Stand.of_body B)
    exact ⟨t, o, a1, b1, b2, ⟨b3.1, b3.2⟩⟩
theorem zCTW.of {own mn : String} {l : Launch} {y : MethodName} {cc : ByteArray} {maxL : Nat} {ret : Option FieldType} {hh : List (Nat × Nat × Nat × Nat)} {fr lo : Nat} {g : zGd} {m : zMm} {av : List Value} {r : Option Value} {g' : zGd} {m' : zMm} (hy : plainFor y = true) (ho1 : y.cls = own) (ho2 : y.name = mn) {L0 : List (Nat × Value)} {n0 : Nat} (hL0 : lv_args 0 av = L0) (hn0 : (lg_sl av).length = n0) (hml0 : n0 ≤ maxL) (body : ∀ X : zCx, xl X = l → xg X = g → xf X = g' → xt X = ret → xr X = .inl r → xn X = m' → (xC X).exceptionTable.toList = tableOf hh → zG X cc maxL own mn fr lo 0 L0 [] g m) : zCTW l y cc maxL ret hh fr lo g m av r g' m' := by
  refine ⟨?_, fun hl D => ?_⟩
  · have h := body ((Program.bare "" "" "", l, { classPath := default }, {}, default), (default, #[], [], default, ⟨0, 0, .empty, (tableOf hh).toArray, #[]⟩), fun _ => True, ((fun _ => 0, fun _ _ => 0), fun _ => 0), g, g', ret, .inl r, m') rfl rfl rfl rfl rfl rfl (by simp)
    exact h.1
  · refine zMetW (cc := cc) (maxL := maxL) (ret := ret) (hh := hh) hy rfl ?_
    intro p e s mi args below meth c s₁ B hmlc hv
    obtain ⟨rfl, hH, hE, hbz⟩ := hv
    have hts0 := atoms_spec (ws := wsW_ y cc maxL ret hh) B.pre
    have hts : ∀ w ∈ lw_all, w.before _ s = true := fun w h => hts0 w (List.mem_cons_of_mem _ h)
    have hown : s.vm.findClass own = some mi.cls := ho1 ▸ findClass_of_methodNamed B.named
    have hnm : meth.name = mn := ho2 ▸ (name_of_methodNamed B.named B.method).1
    have htab := vx_table (x := y) B (hts0 _ List.mem_cons_self)
    have K := body ((p, l, e, zRo g g' fr lo, s), (mi, av.toArray, below, meth, c), MQ below (zQc D r g' m' (zB g)) av.toArray s (zZ g' - zZ g) (zL g' - zL g) (fun q => zB g ≤ q), D, g, g', ret, .inl r, m') rfl rfl rfl rfl rfl rfl htab
    have hF : zFx ((p, l, e, zRo g g' fr lo, s), (mi, av.toArray, below, meth, c), MQ below (zQc D r g' m' (zB g)) av.toArray s (zZ g' - zZ g) (zL g' - zL g) (fun q => zB g ≤ q), D, g, g', ret, .inl r, m') cc maxL own mn fr lo :=
      ⟨B.exec, B.bytes, hmlc, hown, hts, hE, B.notSynchronized, ⟨rfl, rfl⟩, ⟨Nat.le_refl _, Nat.le_refl _⟩, fun q hq => Nat.le_trans hbz (by rw [← hH.1]; exact hq), hl, hnm, B.returns, fun H locs gg k => k⟩
    have hl2 := lv_entry av (n := maxL) (by rw [hn0]; exact hml0)
    rw [hL0] at hl2
    rw [lg_entry_eq]
    exact K.2 hF s.heap [] 0 0 _ ⟨hH, va_S.rf, rfl, rfl, zLe.rf⟩ hl2
section
variable {X : zCx} {cc : ByteArray} {nL pc fr lo : Nat} {own mn : String} {L : List (Nat × Value)} {st : List Value} {g : zGd} {m : zMm} {α : Type} {fin : α}
theorem g_cVWAv {σ : Type} (rv : σ → Value) {f : Option (σ × zGd × zMm)} {K : σ × zGd × zMm → Option α} {y : MethodName} {bytes : ByteArray} {maxL fr' lo' index n cn : Nat} {ret : Option FieldType} {hh : List (Nat × Nat × Nat × Nat)} (As : List Value) {rest st0 : List Value} {a : Option Nat} (ok : ∀ x g1 m1, f = some (x, g1, m1) → zCTW (xl X) y bytes maxL ret hh fr' lo' g m (va_rf a :: As) (some (rv x)) g1 m1) {C : String} {T : u_T} {N ci : Nat} (hc : zCl[ci]? = some (C, T, N)) (hlt : ci < 100) (hw : GoodIn lw_all (wsV own index C y (wsW_ y bytes maxL ret hh))) (hyC : y.cls = C) (hy : zHy y n) (hn : As.length = n) (hroom : fr' + 1 ≤ fr ∧ 8 + (maxL + 11) + lo' ≤ lo) (hst : st0 = As.reverse ++ va_rf a :: rest) (hcat : zCat rest cn) (hc8 : cn ≤ 8) (d : decode cc pc = .ok (.invokevirtual index, 3)) (h : (zrc g ci a f).bind K = some fin) (kk : ∀ x g1 m1, K (x, g1, m1) = some fin → zG X cc nL own mn fr lo (pc + 3) L (rv x :: rest) g1 m1) : zG X cc nL own mn fr lo pc L st0 g m := by
  obtain ⟨a0, rfl, hk0, h⟩ := zrc_e h
  obtain ⟨⟨x, g1, m1⟩, e0, h2⟩ := zB_e h
  have k0 := kk x g1 m1 h2
  have hct := ok x g1 m1 e0
  refine ⟨hct.1.tr k0.1, fun hF H locs cells slots ls hR hL => ?_⟩
  have hroom2 := zRn.room hF hR k0.1 (k := zZ g1 - zZ g) (n := zL g1 - zL g) (by have := hct.1.2.2.1; omega) (by have := hct.1.2.2.2; omega)
  exact zRun (n := 0) hR hct.1 (vx_runVW (As := As) (rest := rest) (b := a0) ⟨hF.ex, hF.by, hF.ml, hF.ow, hF.ts⟩ (hct.2 hF.fl (xD X)) (vx_cwVW n hF.ts hw rfl rfl rfl ⟨hyC, hy⟩ ⟨by rw [hF.ro.1]; exact hroom.1, by rw [hF.ro.2]; exact hroom.2⟩) ⟨zSt.blind, zRn.recv hF hR hk0 hc hlt, fun U hU hW => ⟨rfl, zSt.call hF hR hU hW⟩⟩ rfl hn (hL.1) hst (hcat.room hc8) d hroom2) (fun H1 locs1 c1 s1 hR1 => k0.2 hF H1 locs1 c1 s1 ls hR1 hL)
end
