/-! COMPONENT READING: a text is read -/
set_option maxRecDepth 100000
theorem pw_exxr {α σ ρ τ' : Type} {Q : α → Prop} {s : τ'} {B : τ' → Option ((α ⊕ σ))} {K : σ → Option α} (k : pw (zEx (B s) K) Q) : pw (zEx (zEx (some (.inr s)) B) K) Q := k
theorem pw_exxl {α σ τ' : Type} {Q : α → Prop} {r : α ⊕ σ} {B : τ' → Option ((α ⊕ σ))} {K : σ → Option α} (k : pw (zEx (some r) K) Q) : pw (zEx (zEx (some (.inl r)) B) K) Q := k
theorem pw_exxite {α σ τ' : Type} {Q : α → Prop} {p : Prop} [Decidable p] {A B : Option ((α ⊕ σ) ⊕ τ')} {K' : τ' → Option (α ⊕ σ)} {K : σ → Option α} (h : p → pw (zEx (zEx A K') K) Q) (h' : ¬ p → pw (zEx (zEx B K') K) Q) : pw (zEx (zEx (if p then A else B) K') K) Q := by
  by_cases e : p
  · rw [if_pos e]; exact h e
  · rw [if_neg e]; exact h' e
theorem pw_exxb {α β σ τ' : Type} {Q : α → Prop} {P : Option β} {A : β → Option ((α ⊕ σ) ⊕ τ')} {K' : τ' → Option (α ⊕ σ)} {K : σ → Option α} (k : pw (P.bind fun z => zEx (zEx (A z) K') K) Q) : pw (zEx (zEx (P.bind A) K') K) Q := by
  cases P with
  | none => exact k
  | some z => exact k
/-- steps from f up to e -/
def aSl (C : aC) (f e : Int) : aC := (C.drop f.toNat).take (e - f).toNat
theorem aSl_a {C C' : aC} {f e : Int} (h0 : 0 ≤ f) (h1 : f ≤ e) (h2 : e ≤ (C.length : Int)) : aSl (C ++ C') f e = aSl C f e := by
  unfold aSl
  rw [List.drop_append_of_le_length (by omega), List.take_append_of_le_length (by rw [List.length_drop]; omega)]
theorem aSl_n {C C' : aC} : aSl (C ++ C') (C.length : Int) ((C ++ C').length : Int) = C' := by
  unfold aSl
  rw [Int.toNat_natCast, List.drop_left, List.length_append]
  have : (((C.length + C'.length : Nat) : Int) - (C.length : Int)).toNat = C'.length := by omega
  rw [this, List.take_length]
/-- doings match clauses -/
def dMt (g : zGd) (m : zMm) : Nat → List aCl → List Nat → Prop
  | _, [], xs => xs = []
  | j, c :: L, xs => if c.1 < 2 then dMt g m (j + 1) L xs else ∃ q ys, xs = q :: ys ∧ (tDo g m q (200 + c.1) c.2.1 c.2.2 (j : Int) ∧ c.1 ≤ 7) ∧ dMt g m (j + 1) L ys
theorem dMt_c {g g' : zGd} {m m' : zMm} : ∀ (L : List aCl) (j : Nat) (xs : List Nat), (∀ q, q ∈ xs → zK g' q = zK g q ∧ zI m' q = zI m q) → dMt g m j L xs → dMt g' m' j L xs
  | [], _, _, _, h => h
  | c :: L, j, xs, hq, h => by
    unfold dMt at h ⊢
    by_cases k : c.1 < 2
    · rw [if_pos k] at h ⊢
      exact dMt_c L (j + 1) xs hq h
    · rw [if_neg k] at h ⊢
      obtain ⟨q, ys, e, d, h⟩ := h
      subst e
      have hh := hq q List.mem_cons_self
      refine ⟨q, ys, rfl, ⟨?_, d.2⟩, dMt_c L (j + 1) ys (fun q' hq' => hq q' (List.mem_cons_of_mem _ hq')) h⟩
      have d := d.1
      unfold tDo at d ⊢
      rw [hh.1, hh.2]; exact d
theorem dMt_l {g : zGd} {m : zMm} {c : aCl} (hc : c.1 < 2) : ∀ (L : List aCl) (j : Nat) (xs : List Nat), dMt g m j L xs → dMt g m j (L ++ [c]) xs
  | [], j, xs, h => by
    show dMt g m j [c] xs
    unfold dMt
    rw [if_pos hc]; exact h
  | d :: L, j, xs, h => by
    rw [List.cons_append]
    unfold dMt at h ⊢
    by_cases k : d.1 < 2
    · rw [if_pos k] at h ⊢
      exact dMt_l hc L (j + 1) xs h
    · rw [if_neg k] at h ⊢
      obtain ⟨q, ys, e, d, h⟩ := h
      exact ⟨q, ys, e, d, dMt_l hc L (j + 1) ys h⟩
theorem dMt_d {g : zGd} {m : zMm} {c : aCl} (hc : ¬ c.1 < 2) (h7 : c.1 ≤ 7) {p : Nat} : ∀ (L : List aCl) (j : Nat) (xs : List Nat), dMt g m j L xs → tDo g m p (200 + c.1) c.2.1 c.2.2 ((j + L.length : Nat) : Int) → dMt g m j (L ++ [c]) (xs ++ [p])
  | [], j, xs, h, hp => by
    have h : xs = [] := h
    subst h
    show dMt g m j [c] [p]
    unfold dMt
    rw [if_neg hc]
    exact ⟨p, [], rfl, ⟨hp, h7⟩, rfl⟩
  | d :: L, j, xs, h, hp => by
    have hp' : tDo g m p (200 + c.1) c.2.1 c.2.2 ((j + 1 + L.length : Nat) : Int) := by
      rw [List.length_cons] at hp
      rw [show j + 1 + L.length = j + (L.length + 1) by omega]; exact hp
    rw [List.cons_append]
    unfold dMt at h ⊢
    by_cases k : d.1 < 2
    · rw [if_pos k] at h ⊢
      exact dMt_d hc h7 L (j + 1) xs h hp'
    · rw [if_neg k] at h ⊢
      obtain ⟨q, ys, e, d, h⟩ := h
      exact ⟨q, ys ++ [p], by rw [e, List.cons_append], d, dMt_d hc h7 L (j + 1) ys h hp'⟩
/-- a text's law of a sort -/
def tLw (F : Nat → Prop) (g : zGd) (m : zMm) (la : Nat) (Cl : List aCl) (C : aC) (w : Nat) : Prop :=
  (aHas Cl (w : Int) = false ∧ zR m la w = none) ∨
  (aHas Cl (w : Int) = true ∧ ∃ (p k : Nat) (c : aCl), zR m la w = some p ∧ Cl[k]? = some c ∧ c.1 = (w : Int) ∧ (∀ j c', j < k → Cl[j]? = some c' → c'.1 ≠ (w : Int)) ∧ (0 ≤ c.2.1 ∧ c.2.1 ≤ c.2.2 ∧ c.2.2 ≤ (C.length : Int)) ∧ aGd (200 + (w : Int)) (aSl C c.2.1 c.2.2) ∧ vS 59 F g m p (aSl C c.2.1 c.2.2))
theorem aHas_app (Cl : List aCl) (c : aCl) (w : Int) : aHas (Cl ++ [c]) w = (aHas Cl w || decide (c.1 = w)) := by
  unfold aHas
  rw [List.any_append]
  show (_ || (decide (c.1 = w) || false)) = _
  rw [Bool.or_false]
theorem aHas_f {Cl : List aCl} {w : Int} (h : aHas Cl w = false) {j : Nat} {c : aCl} (hj : Cl[j]? = some c) : c.1 ≠ w := by
  intro e
  have : aHas Cl w = true := by
    unfold aHas
    rw [List.any_eq_true]
    exact ⟨c, List.mem_of_getElem? hj, decide_eq_true e⟩
  rw [h] at this
  cases this
theorem tLw_c {F F' : Nat → Prop} {g g' : zGd} {m m' : zMm} {la : Nat} {Cl : List aCl} {C : aC} {w : Nat} (h : tLw F g m la Cl C w) (hF : ∀ q, F q → F' q) (k : agF F g m g' m') (hl : zR m' la w = zR m la w) : tLw F' g' m' la Cl C w := by
  rcases h with ⟨h1, h2⟩ | ⟨h1, p, i, c, h2, h3, h4, h5, h6, h7, h8⟩
  · exact Or.inl ⟨h1, by rw [hl]; exact h2⟩
  · exact Or.inr ⟨h1, p, i, c, by rw [hl]; exact h2, h3, h4, h5, h6, h7, h8.mono (Nat.le_refl _) hF k⟩
/-- a clause more, of another sort -/
theorem tLw_o {F : Nat → Prop} {g : zGd} {m : zMm} {la : Nat} {Cl : List aCl} {C C' : aC} {w : Nat} {c : aCl} (hc : c.1 ≠ (w : Int)) (h : tLw F g m la Cl C w) : tLw F g m la (Cl ++ [c]) (C ++ C') w := by
  have e : aHas (Cl ++ [c]) (w : Int) = aHas Cl (w : Int) := by rw [aHas_app, decide_eq_false hc, Bool.or_false]
  unfold tLw
  rw [e]
  rcases h with ⟨h1, h2⟩ | ⟨h1, p, i, c0, h2, h3, h4, h5, h6, h7, h8⟩
  · exact Or.inl ⟨h1, h2⟩
  · have hi : i < Cl.length := by
      rcases Nat.lt_or_ge i Cl.length with y | y
      · exact y
      · rw [List.getElem?_eq_none y] at h3; cases h3
    refine Or.inr ⟨h1, p, i, c0, h2, by rw [List.getElem?_append_left hi]; exact h3, h4, fun j c' hj hc' => ?_, ⟨h6.1, h6.2.1, by rw [List.length_append]; omega⟩, by rw [aSl_a h6.1 h6.2.1 h6.2.2]; exact h7, by rw [aSl_a h6.1 h6.2.1 h6.2.2]; exact h8⟩
    rw [List.getElem?_append_left (by omega)] at hc'
    exact h5 j c' hj hc'
/-- the law itself -/
theorem tLw_n {F : Nat → Prop} {g : zGd} {m : zMm} {la p : Nat} {Cl : List aCl} {C C' : aC} {w : Nat} (h : aHas Cl (w : Int) = false) (hp : zR m la w = some p) (hg : aGd (200 + (w : Int)) C') (hv : vS 59 F g m p C') : tLw F g m la (Cl ++ [((w : Int), (C.length : Int), ((C ++ C').length : Int))]) (C ++ C') w := by
  refine Or.inr ⟨by rw [aHas_app, decide_eq_true rfl, Bool.or_true], p, Cl.length, _, hp, by rw [List.getElem?_append_right (Nat.le_refl _), Nat.sub_self]; rfl, rfl, fun j c' hj hc' => ?_, ⟨by show (0 : Int) ≤ (C.length : Int); omega, by show (C.length : Int) ≤ ((C ++ C').length : Int); rw [List.length_append]; omega, Int.le_refl _⟩, ?_, ?_⟩
  · rw [List.getElem?_append_left hj] at hc'
    exact aHas_f h hc'
  · show aGd _ (aSl (C ++ C') (C.length : Int) ((C ++ C').length : Int))
    rw [aSl_n]; exact hg
  · show vS 59 F g m p (aSl (C ++ C') (C.length : Int) ((C ++ C').length : Int))
    rw [aSl_n]; exact hv
/-- while clauses are read -/
def rI (τ ta : Nat) (n : Int) (tp : Int → Int) (g0 : zGd) (m0 : zMm) (x la ld : Nat) (kd nc : Int) (Cl : List aCl) (C : aC) (xs : List Nat) (F : Nat → Prop) (g : zGd) (m : zMm) (st : aSt) : Prop :=
  (cS τ ta n tp kd g m st ∧ cG τ g0 m0 g m ∧ aV n st ∧ st.o = 0 ∧ tBd g0 g (50 * st.p + 3) ∧ xs.length ≤ Cl.length ∧ Cl.length ≤ 24) ∧
  ((zK g x).1 = 4 + 1 ∧ zZ g0 ≤ x ∧ x < zZ g ∧ zR m x 0 = some la ∧ zR m x 2 = some ld ∧ (zI m x 1).toInt = nc) ∧
  (zK g la = (107, 2) ∧ zZ g0 ≤ la ∧ la < zZ g) ∧ (bl g m ld xs ∧ zZ g0 ≤ ld) ∧
  (∀ d, zR m ld 1 = some d → (d < zB g ∨ zZ g0 ≤ d) ∧ ¬ F d) ∧
  (¬ F x ∧ ¬ F la ∧ ¬ F ld ∧ ∀ q, F q → zZ g0 ≤ q ∧ q < zZ g) ∧
  (tLw F g m la Cl C 0 ∧ tLw F g m la Cl C 1) ∧ dMt g m 0 Cl xs ∧ ∀ q, q ∈ xs → F q
abbrev rR : Type := tRes ⊕ (zGd × zMm)
/-- a clause's end -/
def rdE (a0 r3 : Option Nat) (z : zGd × zMm) : Option ((rR ⊕ (zGd × zMm)) ⊕ Unit) :=
  zXd z.1 3 a0 (f_X3_want z.1 z.2 a0 (59 : Int32)) (fun (q58, g59, m60) => some (.inl (.inl (.inl (.inr (q58, g59, m60)))))) fun (_, g56, m57) =>
  (zgi g56 m57 4 1 r3).bind fun v61 =>
  (zpi g56 m57 4 1 r3 (v61 + (1 : Int32))).bind fun m62 =>
  some (.inl (.inr (g56, m62)))
def rdA (a0 r3 : Option Nat) (g30 : zGd) (m31 : zMm) : Option (((rR ⊕ (zGd × zMm)) ⊕ Unit) ⊕ (zGd × zMm)) :=
  (zgr g30 m31 4 2 r3).bind fun r36 =>
  (zgi g30 m31 4 1 r3).bind fun v37 =>
  zXd g30 3 a0 (f_X3_doing g30 m31 a0 v37) (fun (q41, g42, m43) => some (.inl (.inl (.inl (.inl (.inr (q41, g42, m43))))))) fun (r38, g39, m40) =>
  (zrc g39 17 r36 (f_J2_add g39 m40 r36 r38)).bind fun (v44, g45, m46) =>
  some (.inr (g45, m46))
def rdS (a0 r3 : Option Nat) (g30 : zGd) (m31 : zMm) : Option (((rR ⊕ (zGd × zMm)) ⊕ Unit) ⊕ (zGd × zMm)) :=
  (zgr g30 m31 4 0 r3).bind fun r47 =>
  (zgi g30 m31 3 7 a0).bind fun v48 =>
  zXd g30 3 a0 (f_X3_sum g30 m31 a0) (fun (q52, g53, m54) => some (.inl (.inl (.inl (.inl (.inr (q52, g53, m54))))))) fun (r49, g50, m51) =>
  (zastr 6 g50 m51 r47 (v48 - (200 : Int32)) r49).bind fun m55 =>
  some (.inr (g50, m55))
section
variable {τ ta : Nat} {n kd : Int} {tp : Int → Int} {g0 g : zGd} {m0 m : zMm} {x la ld : Nat} {Cl : List aCl} {C : aC} {xs : List Nat} {F : Nat → Prop} {st : aSt}
/-- a clause's head: what comes of it -/
theorem rd_end (hS : cS τ ta n tp kd g m st) (h : st.s = 301) : b_X3_read_12 (some τ) (some x) (g, m) = some (.inl (.inr (g, m))) := by
  have kτ := cS_k hS
  have v4 := hS.2.1.2.2.1
  refine pw_to ?_
  unfold b_X3_read_12
  exact pw_beq (e_gi (ci := 3) kτ) (pw_ite (fun _ => pw_some rfl) (fun y => absurd ((i_eq v4 (show (301 : Int32).toInt = 301 by decide)).mpr h) y))
theorem rd_stray (hS : cS τ ta n tp kd g m st) (h : st.s < 200 ∨ 207 < st.s) (h3 : st.s ≠ 301) : ∃ r, b_X3_read_12 (some τ) (some x) (g, m) = some (.inl (.inl (.inr r))) ∧ cX τ g m 1 8 1 st.p r := by
  have kτ := cS_k hS
  have v4 := hS.2.1.2.2.1
  have c200 := i_lt v4 (show (200 : Int32).toInt = 200 by decide)
  have c207 := i_le v4 (show (207 : Int32).toInt = 207 by decide)
  obtain ⟨r, e, k⟩ := c_wrong hS (f := 1) (fi := 1) (by decide)
  refine ⟨r, pw_to ?_, k⟩
  have e2 := e (rR ⊕ (zGd × zMm)) (fun q g1 m1 => some (.inl (.inl (.inr (q, g1, m1)))))
  unfold b_X3_read_12
  refine pw_beq (e_gi (ci := 3) kτ) (pw_ite (fun y => absurd ((i_eq v4 (show (301 : Int32).toInt = 301 by decide)).mp y) h3) (fun _ => pw_beq (e_gi (ci := 3) kτ) (pw_exite (fun _ => ?_) (fun y1 => ?_))))
  · exact ⟨_, e2, rfl⟩
  · refine pw_exb (pw_beq (e_gi (ci := 3) kτ) (pw_exite (fun y2 => ?_) (fun _ => ?_)))
    · exfalso
      have := c207.mp y2
      have : ¬ st.s < 200 := fun q => y1 (c200.mpr q)
      omega
    · exact ⟨_, e2, rfl⟩
/-- what lies ahead of a clause's body -/
theorem rd_head (hS : cS τ ta n tp kd g m st) (h : ¬ (st.s < 200 ∨ 207 < st.s)) (kx : (zK g x).1 = 4 + 1) (hx0 : zR m x 0 = some la) (hxτ : x ≠ τ) (hla : zK g la = (107, 2)) (hcl : (zI m x 1).toInt = (Cl.length : Int)) :
    (st.s ≤ 201 → ∀ p, zR m la (st.s - 200).toNat = some p → ∃ r, b_X3_read_12 (some τ) (some x) (g, m) = some (.inl (.inl (.inr r))) ∧ cX τ g m 1 8 4 st.p r) ∧
    ((st.s ≤ 201 → zR m la (st.s - 200).toNat = none) →
      ((Cl.length : Int) = 24 → ∃ r, b_X3_read_12 (some τ) (some x) (g, m) = some (.inl (.inl (.inr r))) ∧ cX τ g m 1 8 6 st.p r) ∧
      ((Cl.length : Int) ≠ 24 → ∀ m1, f_X3_next g (zsI m τ 7 (zI m τ 4)) (some τ) = some (g, m1) → (zI m1 τ 7).toInt = st.s → ∀ X,
        (st.s ≤ 201 → zEx (rdS (some τ) (some x) g m1) (rdE (some τ) (some x)) = some (.inl X)) → (201 < st.s → zEx (rdA (some τ) (some x) g m1) (rdE (some τ) (some x)) = some (.inl X)) → b_X3_read_12 (some τ) (some x) (g, m) = some X)) := by
  have kτ := cS_k hS
  have bτ := (cS_b hS).1
  have v4 := hS.2.1.2.2.1
  have c200 := i_lt v4 (show (200 : Int32).toInt = 200 by decide)
  have c207 := i_le v4 (show (207 : Int32).toInt = 207 by decide)
  have c301 := i_eq v4 (show (301 : Int32).toInt = 301 by decide)
  obtain ⟨A, eA⟩ : ∃ A, A = zsI m τ 7 (zI m τ 4) := ⟨_, rfl⟩
  have hA : cS τ ta n tp st.s g A st := by rw [eA]; exact cS_kd hS v4
  have A7 : zI A τ 7 = zI m τ 4 := by rw [eA]; exact f_s
  have AR : zR A = zR m := by rw [eA, zsI_R]
  have Ax : zI A x = zI m x := by rw [eA, zsI_I, zup_r _ _ hxτ]
  have f7 : tkF τ m A := by rw [eA]; exact tkF.up
  have cgA : cG τ g m g A := cG.tk f7
  have c201 := i_lt (show (201 : Int32).toInt = 201 by decide) v4
  -- down to the law's place
  have pre : ∀ Y : rR ⊕ (zGd × zMm), pw (zEx (zEx (σ := Unit) (if (201 : Int32) < zI m τ 4 then (some (.inr ()) : Option (((rR ⊕ (zGd × zMm)) ⊕ Unit) ⊕ Unit))
    else ((zgr g A 4 0 (some x)).bind fun r22 =>
    (zgi g A 3 7 (some τ)).bind fun v23 =>
    (zaldr 107 g A r22 (v23 - (200 : Int32))).bind fun r24 =>
    if r24 = none then (some (.inr ()))
    else ((zrc g 3 (some τ) (f_X3_wrong g A (some τ) (4 : Int32))).bind fun (r25, g26, m27) =>
    (zthr g26 r25).bind fun q28 =>
    some (.inl (.inl (.inl (.inl (.inr (q28, g26, m27))))))))) fun _ =>
    (zgi g A 4 1 (some x)).bind fun v29 =>
    if v29 = (24 : Int32) then ((zrc g 3 (some τ) (f_X3_wrong g A (some τ) (6 : Int32))).bind fun (r63, g64, m65) =>
    (zthr g64 r63).bind fun q66 =>
    some (.inl (.inl (.inl (.inr (q66, g64, m65))))))
    else ((zrc g 3 (some τ) (f_X3_next g A (some τ))).bind fun (g30, m31) =>
    (zgi g30 m31 3 7 (some τ)).bind fun v32 =>
    zEx (σ := zGd × zMm) (if (201 : Int32) < v32 then rdA (some τ) (some x) g30 m31 else rdS (some τ) (some x) g30 m31) (rdE (some τ) (some x)))) fun _ =>
    (zrc g 3 (some τ) (f_X3_wrong g m (some τ) (1 : Int32))).bind fun (r67, g68, m69) =>
    (zthr g68 r67).bind fun q70 =>
    some (.inl (.inl (.inr (q70, g68, m69))))) (fun z => z = Y) → b_X3_read_12 (some τ) (some x) (g, m) = some Y := fun Y hY => by
    refine pw_to ?_
    unfold b_X3_read_12
    refine pw_beq (e_gi (ci := 3) kτ) (pw_ite (fun y => absurd (c301.mp y) (by omega)) (fun _ => pw_beq (e_gi (ci := 3) kτ) (pw_exite (fun y => absurd (c200.mp y) (by omega)) (fun _ => pw_exb (pw_beq (e_gi (ci := 3) kτ) (pw_exite (fun _ => ?_) (fun y => absurd (c207.mpr (by omega)) y)))))))
    refine pw_exb (pw_beq (e_gi (ci := 3) kτ) (pw_exb (pw_beq (e_pi (ci := 3) kτ bτ _) ?_)))
    rw [← eA]
    refine pw_exb (pw_beq (e_gi (ci := 3) kτ) ?_)
    rw [A7]
    exact hY
  have law : st.s ≤ 201 → ∀ {α : Type} (K : Option Nat → Option α), ((zgr g A 4 0 (some x)).bind fun r22 => (zgi g A 3 7 (some τ)).bind fun v23 => (zaldr 107 g A r22 (v23 - (200 : Int32))).bind K) = K (zR m la (st.s - 200).toNat) := fun h2 α K => by
    rw [e_gr (ci := 4) kx, Option.bind_some, AR, hx0, e_gi (ci := 3) kτ, Option.bind_some, A7, e_aldr hla (i_sub v4 (show (200 : Int32).toInt = 200 by decide) (by omega) (by omega)) (by omega) (by omega), Option.bind_some, AR]
  have wr : ∀ {f : Int32} {fi : Int}, f.toInt = fi → ∃ r, (∀ (α : Type) (K : Nat → zGd → zMm → Option α), ((zrc g 3 (some τ) (f_X3_wrong g A (some τ) f)).bind fun (r, g1, m1) => (zthr g1 r).bind fun q => K q g1 m1) = K r.1 r.2.1 r.2.2) ∧ cX τ g m 1 8 fi st.p r := fun hf => by
    obtain ⟨r, e, k⟩ := c_wrong hA hf
    exact ⟨r, e, cX.tr cgA (c1 := 0) (d1 := 0) (by omega) (by omega) k (by omega) (by omega)⟩
  refine ⟨fun h2 p hp => ?_, fun hno => ⟨fun h24 => ?_, fun h24 m1 en e7 X hXS hXA => ?_⟩⟩
  · obtain ⟨r, e, k⟩ := wr (f := 4) (fi := 4) (by decide)
    refine ⟨r, pre _ (pw_exxite (fun y => absurd (c201.mp y) (by omega)) (fun _ => ?_)), k⟩
    have e1 := law h2 (fun r24 => if r24 = none then (some (.inr ()) : Option (((rR ⊕ (zGd × zMm)) ⊕ Unit) ⊕ Unit)) else ((zrc g 3 (some τ) (f_X3_wrong g A (some τ) (4 : Int32))).bind fun (r25, g26, m27) => (zthr g26 r25).bind fun q28 => some (.inl (.inl (.inl (.inl (.inr (q28, g26, m27))))))))
    rw [e1, hp, if_neg (by intro y; cases y), e (((rR ⊕ (zGd × zMm)) ⊕ Unit) ⊕ Unit) (fun q g1 m1 => some (.inl (.inl (.inl (.inl (.inr (q, g1, m1)))))))]
    exact ⟨_, rfl, rfl⟩
  all_goals
    have skip : ∀ {B : Unit → Option ((rR ⊕ (zGd × zMm)) ⊕ Unit)} {K : Unit → Option (rR ⊕ (zGd × zMm))} {Q : rR ⊕ (zGd × zMm) → Prop}, pw (zEx (B ()) K) Q → pw (zEx (zEx (σ := Unit) (if (201 : Int32) < zI m τ 4 then (some (.inr ()) : Option (((rR ⊕ (zGd × zMm)) ⊕ Unit) ⊕ Unit))
      else ((zgr g A 4 0 (some x)).bind fun r22 =>
      (zgi g A 3 7 (some τ)).bind fun v23 =>
      (zaldr 107 g A r22 (v23 - (200 : Int32))).bind fun r24 =>
      if r24 = none then (some (.inr ()))
      else ((zrc g 3 (some τ) (f_X3_wrong g A (some τ) (4 : Int32))).bind fun (r25, g26, m27) =>
      (zthr g26 r25).bind fun q28 =>
      some (.inl (.inl (.inl (.inl (.inr (q28, g26, m27))))))))) B) K) Q := fun {B K Q} hk => by
      refine pw_exxite (fun _ => hk) (fun y => ?_)
      have h2 : st.s ≤ 201 := by
        have : ¬ 201 < st.s := fun q => y (c201.mpr q)
        omega
      have e1 := law h2 (fun r24 => if r24 = none then (some (.inr ()) : Option (((rR ⊕ (zGd × zMm)) ⊕ Unit) ⊕ Unit)) else ((zrc g 3 (some τ) (f_X3_wrong g A (some τ) (4 : Int32))).bind fun (r25, g26, m27) => (zthr g26 r25).bind fun q28 => some (.inl (.inl (.inl (.inl (.inr (q28, g26, m27))))))))
      rw [e1, hno h2, if_pos rfl]
      exact hk
  · obtain ⟨r, e, k⟩ := wr (f := 6) (fi := 6) (by decide)
    refine ⟨r, pre _ (skip (pw_exb (pw_beq (e_gi (ci := 4) kx) ?_))), k⟩
    rw [Ax, if_pos ((i_eq hcl (show (24 : Int32).toInt = 24 by decide)).mpr h24), e ((rR ⊕ (zGd × zMm)) ⊕ Unit) (fun q g1 m1 => some (.inl (.inl (.inl (.inr (q, g1, m1))))))]
    exact ⟨_, rfl, rfl⟩
  · rw [← eA] at en
    refine pre _ (skip (pw_exb (pw_beq (e_gi (ci := 4) kx) ?_)))
    rw [Ax, if_neg (fun y => h24 ((i_eq hcl (show (24 : Int32).toInt = 24 by decide)).mp y)), e_rc (ci := 3) kτ, en]
    refine pw_exb (pw_bsome ?_)
    show pw (zEx ((zgi g m1 3 7 (some τ)).bind _) _) _
    refine pw_exb (pw_beq (e_gi (ci := 3) kτ) ?_)
    have c7 := i_lt (show (201 : Int32).toInt = 201 by decide) e7
    by_cases h2 : st.s ≤ 201
    · rw [if_neg (fun y => by have := c7.mp y; omega), hXS h2]
      exact ⟨_, rfl, rfl⟩
    · rw [if_pos (c7.mpr (by omega)), hXA (by omega)]
      exact ⟨_, rfl, rfl⟩
end
