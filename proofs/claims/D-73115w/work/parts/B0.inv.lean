/-! JOIN: what holds of both objects between two calls -/
set_option maxRecDepth 100000
abbrev iC (b : Nat) (m : zMm) : zP := pI (bC b) m
abbrev iM (b : Nat) (m : zMm) : zP := pI (bM (b + 151)) m
/-- what texts are known to say, by their references -/
abbrev iD : Type := Nat → Option (List aCl × aC)
def lawV (Cl : List aCl) (C : aC) (w : Int) (nm : Int → Int) : Option (Option Int) :=
  if w = 0 ∨ w = 1 then (match Cl.find? (fun c => decide (c.1 = w)) with
    | none => some none
    | some c => (match pEv nm (aSl C c.2.1 c.2.2) [] [] with
      | some ([v], []) => some (some v)
      | _ => none)) else none
def oW (D : iD) (b : Nat) (g : zGd) (m : zMm) : pW := (fun q => zR m (b + 71) q.toNat, zS g 0, fun t w nm => match t with
  | none => none
  | some x => match D x with
    | none => none
    | some z => lawV z.1 z.2 w nm)
def iF (b : Nat) (g : zGd) (q : Nat) : Prop := (b + 167 ≤ q ∧ q < zZ g) ∨ q < zB g
/-- a text's laws; its doings -/
def txL (F : Nat → Prop) (g : zGd) (m : zMm) (x : Nat) (Cl : List aCl) (C : aC) : Prop := (F x ∧ (zK g x).1 = 5) ∧ ∃ la, (zR m x 0 = some la ∧ F la ∧ zK g la = (107, 2)) ∧ tLw F g m la Cl C 0 ∧ tLw F g m la Cl C 1
def txD (F : Nat → Prop) (g : zGd) (m : zMm) (x : Nat) (Cl : List aCl) : Prop := (F x ∧ (zK g x).1 = 5) ∧ ∃ ld xs, zR m x 2 = some ld ∧ lsR F g m ld xs ∧ dMt g m 0 Cl xs ∧ ∀ q, q ∈ xs → F q
theorem txT_l {F : Nat → Prop} {g : zGd} {m : zMm} {x : Nat} {Cl : List aCl} {C : aC} (h : txT F g m x Cl C) : txL F g m x Cl C ∧ txD F g m x Cl := by
  obtain ⟨h1, la, ld, xs, h2, h3, h4, h5, h6, h7⟩ := h
  exact ⟨⟨h1, la, h2, h3⟩, h1, ld, xs, h4, h5, h6, h7⟩
theorem txL_c {F F' : Nat → Prop} {g g' : zGd} {m m' : zMm} {x : Nat} {Cl : List aCl} {C : aC} (h : txL F g m x Cl C) (hF : ∀ q, F q → F' q) (k : agF F g m g' m') : txL F' g' m' x Cl C := by
  obtain ⟨⟨h1, h2⟩, la, ⟨h3, h4, h5⟩, h6, h7⟩ := h
  have kx := k.2.2 x (Or.inl h1)
  have kl := k.2.2 la (Or.inl h4)
  exact ⟨⟨hF x h1, by rw [kx.1]; exact h2⟩, la, ⟨by rw [kx.2.2]; exact h3, hF la h4, by rw [kl.1]; exact h5⟩, tLw_c h6 hF k (by rw [kl.2.2]), tLw_c h7 hF k (by rw [kl.2.2])⟩
theorem txD_c {F F' : Nat → Prop} {g g' : zGd} {m m' : zMm} {x : Nat} {Cl : List aCl} (h : txD F g m x Cl) (hF : ∀ q, F q → F' q) (k : agF F g m g' m') : txD F' g' m' x Cl := by
  obtain ⟨⟨h1, h2⟩, ld, xs, h8, h9, h10, h11⟩ := h
  have kx := k.2.2 x (Or.inl h1)
  exact ⟨⟨hF x h1, by rw [kx.1]; exact h2⟩, ld, xs, by rw [kx.2.2]; exact h8, lsR_m (lsR_c h9 k) hF, dMt_c Cl 0 xs (fun q hq => by have := k.2.2 q (Or.inl (h11 q hq)); exact ⟨this.1, this.2.1⟩) h10, fun q hq => hF q (h11 q hq)⟩
/-- THE INVARIANT: component at b, model at b + 151 -/
def iV (D : iD) (b : Nat) (g : zGd) (m : zMm) : Prop :=
  (pLC g (zR m) b ∧ pLM g (zR m) (b + 151) ∧ b + 167 ≤ zZ g ∧ cW g m) ∧
  (∃ x0, zS g 0 = some x0 ∧ D x0 = some ([], [])) ∧
  (∀ x Cl C, D x = some (Cl, C) → txL (iF b g) g m x Cl C) ∧
  (∀ t : Int, 0 ≤ t → t < iM b m 1 1 → ∃ x Cl C, zR m (b + 71) t.toNat = some x ∧ D x = some (Cl, C) ∧ txD (iF b g) g m x Cl ∧ qTx (iM b m) (681 * t) Cl C) ∧
  (iM b m 2 1 ≤ iM b m 1 1 ∧ (∀ t : Int, 0 ≤ t → t < iM b m 2 1 → zR m (b + 142) t.toNat = zR m (b + 71) t.toNat) ∧ ∀ (t x : Nat), t < 4 → (zR m (b + 71) t = some x ∨ zR m (b + 142) t = some x) → ∃ z, D x = some z) ∧
  gMem (iC b m) ∧ pRel (oW D b g m) (iC b m) (iM b m)
section
variable {D : iD} {b : Nat} {g : zGd} {m m1 m2 : zMm}
theorem iC_e {c : Nat} {i : Int} (h : 0 ≤ i) : iC b m c i = (zI m (b + c) i.toNat).toInt := pI_i h rfl
theorem iC_eq {c : Nat} (h : zI m2 (b + c) = zI m1 (b + c)) : iC b m2 c = iC b m1 c := by
  funext i
  show pI (bC b) m2 c i = pI (bC b) m1 c i
  unfold pI
  by_cases hn : i < 0
  · rw [if_pos hn, if_pos hn]
  · rw [if_neg hn, if_neg hn]
    show (zI m2 (b + c) i.toNat).toInt = (zI m1 (b + c) i.toNat).toInt
    rw [h]
theorem iM_eq {c : Nat} (h : zI m2 (b + 151 + c) = zI m1 (b + 151 + c)) (h2 : zJ m2 (b + 151 + c) = zJ m1 (b + 151 + c)) : iM b m2 c = iM b m1 c := by
  funext i
  show pI (bM (b + 151)) m2 c i = pI (bM (b + 151)) m1 c i
  unfold pI
  by_cases hn : i < 0
  · rw [if_pos hn, if_pos hn]
  · rw [if_neg hn, if_neg hn]
    show (if jM c i then (zJ m2 (b + 151 + c) i.toNat).toInt else (zI m2 (b + 151 + c) i.toNat).toInt) = (if jM c i then (zJ m1 (b + 151 + c) i.toNat).toInt else (zI m1 (b + 151 + c) i.toNat).toInt)
    rw [h, h2]
theorem iM_all (h : ∀ a, b + 151 ≤ a → zI m2 a = zI m1 a ∧ zJ m2 a = zJ m1 a) : iM b m2 = iM b m1 := by
  funext c
  exact iM_eq (h _ (by omega)).1 (h _ (by omega)).2
theorem pOk_I {B : pBl} {a : Nat} (h : pOk B m1 m2) (ha : ∀ k : Nat, a < B.1 ∨ ¬ B.2.2 (a - B.1) (k : Int)) : zI m2 a = zI m1 a ∧ zJ m2 a = zJ m1 a :=
  ⟨funext fun k => (h.1 a k (ha k)).1, funext fun k => (h.1 a k (ha k)).2⟩
theorem pOk_D (h : pOk (bC b) m1 m2) : pOk (bD b) m1 m2 := ⟨fun a k ha => h.1 a k (by
  rcases ha with y | y
  · exact Or.inl y
  · refine Or.inr (fun z => y ?_)
    have z : a - b < 150 ∧ (a - b < 72 ∨ 143 ≤ a - b) ∧ (a - b = 2 → (k : Int) ≠ 1) := z
    exact ⟨by show a - b < 151; omega, z.2.1, z.2.2⟩), h.2⟩
theorem oD_I (h : pOk (bD b) m1 m2) {a : Nat} (ha : a < b ∨ b + 151 ≤ a ∨ (b + 72 ≤ a ∧ a < b + 143)) : zI m2 a = zI m1 a ∧ zJ m2 a = zJ m1 a := pOk_I h (fun k => by
  by_cases y : a < b
  · exact Or.inl y
  · refine Or.inr (fun z => ?_)
    have z : a - b < 151 ∧ (a - b < 72 ∨ 143 ≤ a - b) ∧ (a - b = 2 → (k : Int) ≠ 1) := z
    omega)
theorem oM_I (h : pOk (bM (b + 151)) m1 m2) {a : Nat} (ha : a < b + 151 ∨ b + 167 ≤ a ∨ a = b + 154) : zI m2 a = zI m1 a ∧ zJ m2 a = zJ m1 a := pOk_I h (fun k => by
  by_cases y : a < b + 151
  · exact Or.inl y
  · refine Or.inr (fun z => ?_)
    have z : a - (b + 151) < 16 ∧ a - (b + 151) ≠ 3 := z
    omega)
theorem oW_R (hR : zR m2 = zR m1) : oW D b g m2 = oW D b g m1 := by
  unfold oW
  rw [hR]
theorem iV_rel (h : iV D b g m) : pRel (oW D b g m) (iC b m) (iM b m) := h.2.2.2.2.2.2
theorem iV_lc (h : iV D b g m) : pLC g (zR m) b := h.1.1
theorem iV_lm (h : iV D b g m) : pLM g (zR m) (b + 151) := h.1.2.1
theorem find_k {Cl : List aCl} {w : Int} {k : Nat} {c : aCl} (hk : Cl[k]? = some c) (hc : c.1 = w) (hj : ∀ j c', j < k → Cl[j]? = some c' → c'.1 ≠ w) : Cl.find? (fun c => decide (c.1 = w)) = some c := by
  induction Cl generalizing k with
  | nil => cases hk
  | cons a L ih =>
    cases k with
    | zero =>
      have hk : some a = some c := hk
      cases hk
      rw [List.find?_cons_of_pos (p := fun (c : aCl) => decide (c.1 = w)) (decide_eq_true hc)]
    | succ k =>
      have ha := hj 0 a (by omega) rfl
      rw [List.find?_cons_of_neg (p := fun (c : aCl) => decide (c.1 = w)) (by intro e; exact ha (of_decide_eq_true e))]
      exact ih (k := k) hk (fun j c' h1 h2 => hj (j + 1) c' (by omega) h2)
theorem find_n {Cl : List aCl} {w : Int} (h : aHas Cl w = false) : Cl.find? (fun c => decide (c.1 = w)) = none := by
  rw [List.find?_eq_none]
  intro c hc e
  have : aHas Cl w = true := by
    unfold aHas
    rw [List.any_eq_true]
    exact ⟨c, hc, e⟩
  rw [h] at this
  cases this
/-- what a law gives -/
theorem tLw_v {F : Nat → Prop} {la : Nat} {Cl : List aCl} {C : aC} {w : Nat} (hw : w < 2) (h : tLw F g m la Cl C w) :
    (aHas Cl (w : Int) = false ∧ zR m la w = none ∧ ∀ nm, lawV Cl C (w : Int) nm = some none) ∨
    ∃ (p k : Nat) (c : aCl), zR m la w = some p ∧ Cl[k]? = some c ∧ c.1 = (w : Int) ∧ (∀ j c', j < k → Cl[j]? = some c' → c'.1 ≠ (w : Int)) ∧ (0 ≤ c.2.1 ∧ c.2.1 ≤ c.2.2 ∧ c.2.2 ≤ (C.length : Int)) ∧ aGd (200 + (w : Int)) (aSl C c.2.1 c.2.2) ∧
      ∀ nm, ∃ x, lawV Cl C (w : Int) nm = some (some x) ∧ pEv nm (aSl C c.2.1 c.2.2) [] [] = some ([x], []) ∧ ∀ g' m', agF F g m g' m' → ∀ a, nmA g' m' a nm → ∃ z : Int64, (r_E 70 g' m').1 (some p) (some a) = some z ∧ z.toInt = x := by
  have hw' : (w : Int) = 0 ∨ (w : Int) = 1 := by omega
  rcases h with ⟨h1, h2⟩ | ⟨h1, p, k, c, h2, h3, h4, h5, h6, h7, h8⟩
  · refine Or.inl ⟨h1, h2, fun nm => ?_⟩
    unfold lawV
    rw [if_pos hw', find_n h1]
  · refine Or.inr ⟨p, k, c, h2, h3, h4, h5, h6, h7, fun nm => ?_⟩
    obtain ⟨x, x1, x2⟩ := h8.2 nm
    have e := x1 [] [] []
    rw [List.append_nil] at e
    have e : pEv nm (aSl C c.2.1 c.2.2) [] [] = some ([x], []) := e
    refine ⟨x, ?_, e, fun g' m' hag a ha => ?_⟩
    · unfold lawV
      rw [if_pos hw', find_k h3 h4 h5]
      dsimp only
      rw [e]
    · obtain ⟨z, z1, z2, -⟩ := x2 70 (by decide) g' m' hag a ha
      exact ⟨z, z1, z2⟩
theorem iF_ag (h : pOk (bC b) m m1) (hb : zB g ≤ b) : agF (iF b g) g m g m1 := ⟨rfl, rfl, fun q hq => by
  have hq : q < b ∨ b + 167 ≤ q := by
    rcases hq with (y | y) | y <;> omega
  exact ⟨rfl, (oD_I (pOk_D h) (by omega)).1, by rw [h.2]⟩⟩
theorem iV_ok (h : iV D b g m) : pWok g (bC b) m (oW D b g m) := by
  obtain ⟨⟨a1, a2, a3, a4⟩, b1, c1, d1, e1, f1, r1⟩ := h
  refine ⟨fun q _ _ => rfl, rfl, fun m' ho t w r hr => ?_⟩
  cases t with
  | none => cases hr
  | some x =>
    cases hD : D x with
    | none =>
      have hr : (match D x with | none => none | some z => lawV z.1 z.2 w.toInt (pI (bC b) m' 144)) = some r := hr
      rw [hD] at hr; cases hr
    | some z =>
      obtain ⟨Cl, C⟩ := z
      have hr : (match D x with | none => none | some z => lawV z.1 z.2 w.toInt (pI (bC b) m' 144)) = some r := hr
      rw [hD] at hr
      have hr : lawV Cl C w.toInt (pI (bC b) m' 144) = some r := hr
      have hw : w.toInt = 0 ∨ w.toInt = 1 := by
        unfold lawV at hr
        by_cases y : w.toInt = 0 ∨ w.toInt = 1
        · exact y
        · rw [if_neg y] at hr; cases hr
      obtain ⟨wn, ew⟩ : ∃ wn : Nat, w.toInt = (wn : Int) := ⟨w.toInt.toNat, by omega⟩
      have hw2 : wn < 2 := by omega
      have ag := iF_ag ho (lc_b a1)
      obtain ⟨⟨x1, x2⟩, la, ⟨l1, l2, l3⟩, t0, t1⟩ := txL_c (c1 x Cl C hD) (fun _ y => y) ag
      have hna : nmA g m' (b + 144) (pI (bC b) m' 144) := ⟨lc_k144 a1, fun i _ => by
        have := iC_e (b := b) (m := m') (c := 144) (i := (i : Int)) (by omega)
        rw [Int.toNat_natCast] at this
        exact this.symm⟩
      have lw : tLw (iF b g) g m' la Cl C wn := by
        rcases (by omega : wn = 0 ∨ wn = 1) with y | y
        · subst y; exact t0
        · subst y; exact t1
      have ald : zaldr 107 g m' (some la) w = some (zR m' la wn) := by
        have := e_aldr (m := m') l3 ew (by omega) (by omega)
        rw [Int.toNat_natCast] at this
        exact this
      rw [ew] at hr
      rcases tLw_v hw2 lw with ⟨v1, v2, v3⟩ | ⟨p, k, c, v1, v2, v3, v4, v5, v6, v7⟩
      · rw [v3] at hr
        cases hr
        exact ⟨some la, none, by rw [e_gr (ci := 4) x2, l1], by rw [ald, v2], rfl⟩
      · obtain ⟨y, y1, y2, y3⟩ := v7 (pI (bC b) m' 144)
        rw [y1] at hr
        cases hr
        obtain ⟨z, z1, z2⟩ := y3 g m' ⟨rfl, rfl, fun _ _ => ⟨rfl, rfl, rfl⟩⟩ (b + 144) hna
        exact ⟨some la, some p, by rw [e_gr (ci := 4) x2, l1], by rw [ald, v1], (by intro q; cases q), z, z1, z2.symm⟩
theorem pCode_s {U : zP} {tx f e : Int} {C : aC} (h : pCd U tx C) (h0 : 0 ≤ f) (h1 : f ≤ e) (h2 : e ≤ (C.length : Int)) : pCode (U 3) tx f e = aSl C f e := by
  unfold pCode aSl
  apply List.ext_getElem?
  intro i
  rw [List.getElem?_map, List.getElem?_take, List.getElem?_drop]
  by_cases hi : i < (e - f).toNat
  · rw [List.getElem?_range hi, if_pos hi]
    obtain ⟨z, ez⟩ : ∃ z, C[f.toNat + i]? = some z := ⟨_, List.getElem?_eq_getElem (by omega)⟩
    obtain ⟨q1, q2⟩ := h _ z ez
    rw [ez]
    have e1 : ((f.toNat + i : Nat) : Int) = f + (i : Int) := by omega
    rw [e1] at q1 q2
    show some (U 3 (tx + 73 + 2 * (f + (i : Int))), U 3 (tx + 74 + 2 * (f + (i : Int)))) = some z
    rw [q1, q2]
  · rw [if_neg hi, List.getElem?_eq_none (by rw [List.length_range]; omega)]; rfl
theorem pLaw_i {SM : zP} {t : Int} {x : Nat} {Cl : List aCl} {C : aC} {F : Nat → Prop} {la : Nat} {w : Nat} (hw : w < 2) (hR : zR m (b + 71) t.toNat = some x) (hD : D x = some (Cl, C)) (hl : tLw F g m la Cl C w) (hq : qTx SM (681 * t) Cl C) : pLaw (oW D b g m) (SM 3) t (w : Int) := by
  obtain ⟨q1, q2, q3, q4, q5⟩ := hq
  have hv : ∀ nm, (oW D b g m).2.2 ((oW D b g m).1 t) (w : Int) nm = lawV Cl C (w : Int) nm := fun nm => by
    show (match zR m (b + 71) t.toNat with | none => none | some x => match D x with | none => none | some z => lawV z.1 z.2 (w : Int) nm) = _
    rw [hR]
    dsimp only
    rw [hD]
  have hcl : ∀ k : Int, 0 ≤ k → k < (Cl.length : Int) → ∃ c, Cl[k.toNat]? = some c := fun k k0 k1 => ⟨_, List.getElem?_eq_getElem (by omega)⟩
  have hso : ∀ (k : Int) c, 0 ≤ k → Cl[k.toNat]? = some c → SM 3 (681 * t + 1 + 3 * k) = c.1 := fun k c k0 hc => by
    have := (q4 _ c hc).1
    rw [Int.toNat_of_nonneg k0] at this
    exact this
  rcases tLw_v hw hl with ⟨v1, v2, v3⟩ | ⟨p, k, c, v1, v2, v3, v4, v5, v6, v7⟩
  · refine Or.inl ⟨fun k k0 k1 => ?_, fun nm => by rw [hv]; exact v3 nm⟩
    rw [q1] at k1
    obtain ⟨c, hc⟩ := hcl k k0 k1
    rw [hso k c k0 hc]
    exact aHas_f v1 hc
  · have hkl : k < Cl.length := by
      rcases Nat.lt_or_ge k Cl.length with y | y
      · exact y
      · rw [List.getElem?_eq_none y] at v2; cases v2
    obtain ⟨u1, u2, u3⟩ := q4 k c v2
    refine Or.inr ⟨(k : Int), c.2.1, c.2.2, by omega, by rw [q1]; omega, by rw [u1]; exact v3, fun j j0 j1 => ?_, ?_, ?_, v5.1, v5.2.1, by omega, ?_, fun nm => ?_⟩
    · obtain ⟨c', hc'⟩ := hcl j j0 (by omega)
      rw [hso j c' j0 hc']
      exact v4 j.toNat c' (by omega) hc'
    · exact u2
    · exact u3 (by omega)
    · rw [pCode_s q5 v5.1 v5.2.1 v5.2.2]
      intro z hz
      have k1 := v6 z hz
      exact ⟨k1.1, fun y => by have := k1.2 y; omega⟩
    · obtain ⟨x, x1, x2, x3⟩ := v7 nm
      exact ⟨x, by rw [hv]; exact x1, by rw [pCode_s q5 v5.1 v5.2.1 v5.2.2]; exact x2⟩
theorem iV_tx (hx : ∃ x0, zS g 0 = some x0 ∧ D x0 = some ([], [])) (hD : ∀ x Cl C, D x = some (Cl, C) → txL (iF b g) g m x Cl C) {SM : zP} (ht : ∀ t : Int, 0 ≤ t → t < SM 1 1 → ∃ x Cl C, zR m (b + 71) t.toNat = some x ∧ D x = some (Cl, C) ∧ qTx SM (681 * t) Cl C) : pTx (oW D b g m) SM := by
  obtain ⟨x0, e0, d0⟩ := hx
  refine ⟨fun w nm hw => ?_, fun t t0 t1 => ?_⟩
  · show (match zS g 0 with | none => none | some x => match D x with | none => none | some z => lawV z.1 z.2 w nm) = _
    rw [e0]
    dsimp only
    rw [d0]
    show lawV [] [] w nm = _
    unfold lawV
    rw [if_pos hw]
    rfl
  · obtain ⟨x, Cl, C, h1, h2, h3⟩ := ht t t0 t1
    obtain ⟨-, la, -, l0, l1⟩ := hD x Cl C h2
    refine ⟨?_, pLaw_i (w := 0) (by decide) h1 h2 l0 h3, pLaw_i (w := 1) (by decide) h1 h2 l1 h3⟩
    have e := h3.1
    have l := h3.2.1
    rw [e]
    omega
/-- a call that makes nothing and writes no reference -/
theorem iV_go (h : iV D b g m) (hR : zR m2 = zR m) (hI : ∀ a, (a < b ∨ b + 167 ≤ a ∨ a = b + 154 ∨ (b + 72 ≤ a ∧ a < b + 143)) → zI m2 a = zI m a ∧ zJ m2 a = zJ m a) (h21 : zI m2 (b + 2) 1 = zI m (b + 2) 1) (hg : gMem (iC b m2)) (hr : pRel (oW D b g m) (iC b m2) (iM b m2)) : iV D b g m2 := by
  obtain ⟨⟨a1, a2, a3, a4⟩, b1, c1, d1, e1, f1, r1⟩ := h
  have hb := lc_b a1
  have ag : agF (iF b g) g m g m2 := ⟨rfl, rfl, fun q hq => by
    have hq : q < b ∨ b + 167 ≤ q := by
      rcases hq with (y | y) | y <;> omega
    exact ⟨rfl, (hI q (by omega)).1, by rw [hR]⟩⟩
  have t3 : iM b m2 3 = iM b m 3 := iM_eq (hI _ (by omega)).1 (hI _ (by omega)).2
  have n0 : ∀ {W : pW} {S T : zP}, pRel W S T → S 2 1 = T 1 1 ∧ S 73 1 = T 2 1 := fun h => ⟨h.1.1.2.1.1, h.2.1.1.2.1.1⟩
  have k1 := n0 r1
  have k2 := n0 hr
  have s2 : iC b m2 2 1 = iC b m 2 1 := by
    rw [iC_e (by omega), iC_e (by omega)]
    show (zI m2 (b + 2) 1).toInt = (zI m (b + 2) 1).toInt
    rw [h21]
  have s73 : iC b m2 73 = iC b m 73 := iC_eq (hI _ (by omega)).1
  have T1 : iM b m2 1 1 = iM b m 1 1 := by rw [← k2.1, ← k1.1, s2]
  have T2 : iM b m2 2 1 = iM b m 2 1 := by rw [← k2.2, ← k1.2, s73]
  refine ⟨⟨by rw [hR]; exact a1, by rw [hR]; exact a2, a3, cW_c ⟨rfl, rfl, fun q hq => ⟨rfl, (hI q (by omega)).1, by rw [hR]⟩⟩ a4⟩, b1, fun x Cl C hx => txL_c (c1 x Cl C hx) (fun _ y => y) ag, fun t t0 t1 => ?_, ?_, hg, by rw [oW_R hR]; exact hr⟩
  · rw [T1] at t1
    obtain ⟨x, Cl, C, h1, h2, h3, h4⟩ := d1 t t0 t1
    refine ⟨x, Cl, C, by rw [hR]; exact h1, h2, txD_c h3 (fun _ y => y) ag, ?_⟩
    unfold qTx pCd at h4 ⊢
    rw [t3]; exact h4
  · rw [T1, T2, hR]; exact e1
theorem iV_pp (h : iV D b g m) (h0 : pOk (bD b) m m1) (h2 : pOk (bM (b + 151)) m1 m2) (hg : gMem (iC b m1)) (hr : pRel (oW D b g m) (iC b m1) (iM b m2)) : iV D b g m2 := by
  have hI : ∀ a, (a < b ∨ b + 167 ≤ a ∨ a = b + 154 ∨ (b + 72 ≤ a ∧ a < b + 143)) → zI m2 a = zI m a ∧ zJ m2 a = zJ m a := fun a ha => by
    have x := oM_I h2 (a := a) (by omega)
    have y := oD_I h0 (a := a) (by omega)
    exact ⟨x.1.trans y.1, x.2.trans y.2⟩
  have eC : ∀ c, c < 151 → iC b m2 c = iC b m1 c := fun c hc => iC_eq (oM_I h2 (by omega)).1
  refine iV_go h (h2.2.trans h0.2) hI ?_ ?_ ?_
  · rw [(oM_I h2 (a := b + 2) (by omega)).1]
    exact (h0.1 (b + 2) 1 (Or.inr (fun z => by
      have z : b + 2 - b < 151 ∧ (b + 2 - b < 72 ∨ 143 ≤ b + 2 - b) ∧ (b + 2 - b = 2 → ((1 : Nat) : Int) ≠ 1) := z
      exact z.2.2 (by omega) rfl))).1
  · unfold gMem at hg ⊢
    rw [eC 150 (by omega)]; exact hg
  · exact pRel_w hr (fun c _ hc => eC c (by omega)) (fun i _ => by rw [eC 0 (by omega)]) (fun _ _ _ => rfl) (fun _ _ => rfl)
theorem gMem_C (h : gMem (iC b m)) (ho : pOk (bC b) m m1) : gMem (iC b m1) := by
  unfold gMem at h ⊢
  have : iC b m1 150 = iC b m 150 := iC_eq (pOk_I ho (fun k => Or.inr (fun z => by
    have z : b + 150 - b < 150 ∧ (b + 150 - b < 72 ∨ 143 ≤ b + 150 - b) ∧ (b + 150 - b = 2 → (k : Int) ≠ 1) := z
    omega))).1
  rw [this]; exact h
theorem iM_C (h : pOk (bD b) m m1) : iM b m1 = iM b m := iM_all (fun a ha => oD_I h (by omega))
/-! the shapes of a call: both write; neither; the model alone -/
theorem i_mm (h : iV D b g m) {P0 : Option (Int × zP)} {F0 : Option (Int32 × zMm)} {P2 : zP → Option (Int × zP)} {F2 : zMm → Option (Int32 × zMm)} (r0 : pRf (qP qI (qM (bC b) m)) P0 F0) (r2 : ∀ m1, zR m1 = zR m → pRf (qP qI (qM (bM (b + 151)) m1)) (P2 (iM b m1)) (F2 m1)) (q : pw P0 (fun z => pw (P2 (iM b m)) (fun t => z.1 = t.1 ∧ pRel (oW D b g m) z.2 t.2))) : ∃ v m1 m2, F0 = some (v, m1) ∧ F2 m1 = some (v, m2) ∧ iV D b g m2 := by
  obtain ⟨z, e0, t, e2, q1, q2⟩ := q
  obtain ⟨⟨v, m1⟩, f0, a1, a2, a3⟩ := r0 z e0
  rw [← iM_C (pOk_D a3)] at e2
  obtain ⟨⟨v', m2⟩, f2, c1, c2, c3⟩ := r2 m1 a3.2 t e2
  have a1 : z.1 = v.toInt := a1
  have a2 : z.2 = iC b m1 := a2
  have c1 : t.1 = v'.toInt := c1
  have c2 : t.2 = iM b m2 := c2
  have hv : v' = v := Int32.toInt_inj.mp (by rw [← c1, ← a1, q1])
  subst hv
  rw [a2, c2] at q2
  exact ⟨v', m1, m2, f0, f2, iV_pp h (pOk_D a3) c3 (gMem_C h.2.2.2.2.2.1 a3) q2⟩
theorem i_mg (h : iV D b g m) {P0 : Option (Int × zP)} {F0 : Option (Int32 × zMm)} {P2 : zP → Option (Int × zP)} {F2 : zMm → Option (Int32 × zMm)} (r0 : pRf (qP qI (qM (bD b) m)) P0 F0) (r2 : ∀ m1, zR m1 = zR m → pRf (qP qI (qM (bM (b + 151)) m1)) (P2 (iM b m1)) (F2 m1)) (q : pw P0 (fun z => pw (P2 (iM b m)) (fun t => z.1 = t.1 ∧ pRel (oW D b g m) z.2 t.2 ∧ gMem z.2))) : ∃ v m1 m2, F0 = some (v, m1) ∧ F2 m1 = some (v, m2) ∧ iV D b g m2 := by
  obtain ⟨z, e0, t, e2, q1, q2, q3⟩ := q
  obtain ⟨⟨v, m1⟩, f0, a1, a2, a3⟩ := r0 z e0
  rw [← iM_C a3] at e2
  obtain ⟨⟨v', m2⟩, f2, c1, c2, c3⟩ := r2 m1 a3.2 t e2
  have a1 : z.1 = v.toInt := a1
  have a2 : z.2 = iC b m1 := a2
  have c1 : t.1 = v'.toInt := c1
  have c2 : t.2 = iM b m2 := c2
  have hv : v' = v := Int32.toInt_inj.mp (by rw [← c1, ← a1, q1])
  subst hv
  rw [a2, c2] at q2
  rw [a2] at q3
  exact ⟨v', m1, m2, f0, f2, iV_pp h a3 c3 q3 q2⟩
theorem i_rr {P0 P2 : Option Int} {F0 F2 : Option Int32} (r0 : pRf qI P0 F0) (r2 : pRf qI P2 F2) (q : pw P0 (fun z => pw P2 (fun t => z = t))) : ∃ v, F0 = some v ∧ F2 = some v := by
  obtain ⟨z, e0, t, e2, q1⟩ := q
  obtain ⟨v, f0, a1⟩ := r0 z e0
  obtain ⟨v', f2, c1⟩ := r2 t e2
  have a1 : z = v.toInt := a1
  have c1 : t = v'.toInt := c1
  have hv : v' = v := Int32.toInt_inj.mp (by rw [← c1, ← a1, q1])
  subst hv
  exact ⟨v', f0, f2⟩
theorem i_jj {P0 P2 : Option Int} {F0 F2 : Option Int64} (r0 : pRf qJ P0 F0) (r2 : pRf qJ P2 F2) (q : pw P0 (fun z => pw P2 (fun t => z = t))) : ∃ v, F0 = some v ∧ F2 = some v := by
  obtain ⟨z, e0, t, e2, q1⟩ := q
  obtain ⟨v, f0, a1⟩ := r0 z e0
  obtain ⟨v', f2, c1⟩ := r2 t e2
  have a1 : z = v.toInt := a1
  have c1 : t = v'.toInt := c1
  have hv : v' = v := Int64.toInt_inj.mp (by rw [← c1, ← a1, q1])
  subst hv
  exact ⟨v', f0, f2⟩
theorem i_rm (h : iV D b g m) {P0 : Option Int} {F0 : Option Int32} {P2 : Option (Int × zP)} {F2 : Option (Int32 × zMm)} (r0 : pRf qI P0 F0) (r2 : pRf (qP qI (qM (bM (b + 151)) m)) P2 F2) (q : pw P0 (fun z => pw P2 (fun t => z = t.1 ∧ pRel (oW D b g m) (iC b m) t.2))) : ∃ v m2, F0 = some v ∧ F2 = some (v, m2) ∧ iV D b g m2 := by
  obtain ⟨z, e0, t, e2, q1, q2⟩ := q
  obtain ⟨v, f0, a1⟩ := r0 z e0
  obtain ⟨⟨v', m2⟩, f2, c1, c2, c3⟩ := r2 t e2
  have a1 : z = v.toInt := a1
  have c1 : t.1 = v'.toInt := c1
  have c2 : t.2 = iM b m2 := c2
  have hv : v' = v := Int32.toInt_inj.mp (by rw [← c1, ← a1, q1])
  subst hv
  rw [c2] at q2
  exact ⟨v', m2, f0, f2, iV_pp h pOk.rf c3 h.2.2.2.2.2.1 q2⟩
end
