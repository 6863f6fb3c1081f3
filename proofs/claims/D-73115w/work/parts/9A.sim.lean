/-! READING: by descent and by piles, sums -/
set_option maxRecDepth 100000
def mGo (k : Int) (T T' : zP) : Prop := ∃ j : Nat, (j : Int) ≤ k ∧ ∀ F, zLoop pb_X2_summed_15 (F + j) T = zLoop pb_X2_summed_15 F T'
def mFl (E0 : zP) (tx k : Int) (T : zP) (q : aF) : Prop := ∃ (j : Nat) (T' : zP), (j : Int) ≤ k ∧ (∀ F, zLoop pb_X2_summed_15 (F + j + 1) T = some (q.1, T')) ∧ T' 0 8 = q.2 ∧ pFr E0 tx T'
theorem mGo.rf {k : Int} {T : zP} (h : 0 ≤ k) : mGo k T T := ⟨0, h, fun _ => rfl⟩
theorem mGo.one {k : Int} {T T' : zP} (h : 1 ≤ k) (e : pb_X2_summed_15 T = some (.inr T')) : mGo k T T' := ⟨1, h, fun _ => zLoop_r e⟩
theorem mGo.tr {k1 k2 k : Int} {T T1 T2 : zP} (h : mGo k1 T T1) (g : mGo k2 T1 T2) (hk : k1 + k2 ≤ k) : mGo k T T2 := by
  obtain ⟨j1, a1, b1⟩ := h
  obtain ⟨j2, a2, b2⟩ := g
  refine ⟨j2 + j1, by omega, fun F => ?_⟩
  rw [← Nat.add_assoc, b1, b2]
theorem mFl.one {E0 : zP} {tx k : Int} {T T' : zP} {q : aF} (h : 0 ≤ k) (e : pb_X2_summed_15 T = some (.inl (q.1, T'))) (hp : T' 0 8 = q.2) (hf : pFr E0 tx T') : mFl E0 tx k T q := ⟨0, T', h, fun _ => zLoop_l e, hp, hf⟩
theorem mFl.tr {E0 : zP} {tx k1 k2 k : Int} {T T1 : zP} {q : aF} (h : mGo k1 T T1) (g : mFl E0 tx k2 T1 q) (hk : k1 + k2 ≤ k) : mFl E0 tx k T q := by
  obtain ⟨j1, a1, b1⟩ := h
  obtain ⟨j2, T2, a2, b2, c2⟩ := g
  refine ⟨j2 + j1, T2, by omega, fun F => ?_, c2⟩
  rw [show F + (j2 + j1) + 1 = (F + j2 + 1) + j1 by omega, b1, b2]
/-- what comes of reading -/
def cPost (E0 : zP) (tx nn q rm : Int) (nx : Int → Prop) (cp : Bool) (st : aSt) (U P : List Int) (C : aC) (T : zP) : aX → Prop
  | .inl (L, st') => ∃ (R : List Int) (C' : aC) (T' : zP), mGo (st'.p - st.p) T T' ∧ mS E0 tx st' (R ++ P) (st.o - cntU U + cntU R) 1 C' T' ∧ C' ++ emz R = C ++ L ++ emz U ∧ (∀ x ∈ R, q ≤ rk x) ∧ aV nn st' ∧ st'.o = st.o ∧ st.p < st'.p ∧ ((C'.length : Int) + R.length + P.length ≤ st'.p) ∧ ((R.length : Int) ≤ rm ∧ (R.length : Int) + P.length ≤ 100) ∧ nx st'.s ∧ (cp = true → cP (R ++ P) = 1)
  | .inr (f, p) => (st.p ≤ p ∧ p ≤ nn) ∧ mFl E0 tx (p - st.p) T (f, p)
def cFn (E0 : zP) (tx nn ql q bd rm : Int) (nx : Int → Prop) (cp : Bool) (f : aFn) : Prop := ∀ (st : aSt) (P : List Int) (C : aC) (T : zP) (res : aX), f st = some res → mS E0 tx st P st.o 0 C T → aV nn st → lowP ql P → (cp = true → oN P = 41) → (P.length : Int) ≤ 6 * st.o + bd → (C.length : Int) + P.length ≤ st.p → (cp = false → st.s = 219 → aA P = 0) → cPost E0 tx nn q rm nx cp st [] P C T res
def cOne (E0 : zP) (tx nn : Int) (Z : aSt → Prop) (f : aFn) : Prop := ∀ (st : aSt) (U P : List Int) (C : aC) (T : zP) (res : aX), f st = some res → Z st → mS E0 tx st (U ++ P) st.o 0 C T → aV nn st → (∀ x ∈ U, 7 ≤ rk x) → lowP 7 P → cntU U ≤ st.o → (U.length : Int) + P.length ≤ 6 * st.o + 5 → (C.length : Int) + U.length + P.length ≤ st.p → (st.s = 219 → aA (U ++ P) = 0) → cPost E0 tx nn 8 0 (fun _ => True) false st U P C T res
theorem rk_hi {x : Int} (h : 1 ≤ rk x) : x < 40 := by
  unfold rk at h
  by_cases y : 40 ≤ x
  · rw [if_pos y] at h; omega
  · omega
theorem oN_a : ∀ (R P : List Int), (∀ x ∈ R, 1 ≤ rk x) → oN (R ++ P) = oN P
  | [], _, _ => rfl
  | x :: r, P, h => by
    have := rk_hi (h x List.mem_cons_self)
    show (if 40 ≤ x then x else oN (r ++ P)) = _
    rw [if_neg (by omega)]
    exact oN_a r P (fun y hy => h y (List.mem_cons_of_mem _ hy))
theorem cP_a : ∀ (R P : List Int), (∀ x ∈ R, 5 ≤ rk x) → cP (R ++ P) = cP P
  | [], _, _ => rfl
  | x :: r, P, h => by
    have := h x List.mem_cons_self
    show (if rk x ≤ 4 then (if rk x = 4 then 1 else 0) else cP (r ++ P)) = _
    rw [if_neg (by omega)]
    exact cP_a r P (fun y hy => h y (List.mem_cons_of_mem _ hy))
theorem lowP_m {q q' : Int} (h : q ≤ q') : ∀ {P : List Int}, lowP q P → lowP q' P
  | [], _ => trivial
  | _ :: _, k => Int.lt_of_lt_of_le k h
theorem aA_hd {x : Int} {r : List Int} (h : x < 40) (k : rk x < 1 ∨ 3 < rk x) : aA (x :: r) = 0 := by
  exact if_neg (by omega)
theorem aA_on {P : List Int} (h : oN P ≠ 41) : aA P = 0 := by
  cases P with
  | nil => rfl
  | cons x r => exact if_neg (fun y => h y.1)
theorem rk_40 {y : Int} (h : 40 ≤ y) : rk y = 0 := if_pos h
section
variable {E0 : zP} {lx : Int → Int × Int × Int × Int} {tx nn kd : Int}
theorem mS_p {st : aSt} {P : List Int} {o w : Int} {C : aC} {T : zP} (h : mS E0 tx st P o w C T) : T 0 8 = st.p := h.1.2.1
/-! a chain of one rank -/
set_option maxHeartbeats 1000000 in
theorem sim_chain (hl : aLx lx E0 nn) (hn : nn ≤ 300) (hE : E0 0 12 = tx) (t0 : 0 ≤ tx) (t1 : tx ≤ 2043) {c1 c2 o1 o2 r qlf qf bd bdf rm rmf : Int} {nxf : Int → Prop} {cp : Bool} {f : aFn}
    (hr : rk o1 = r ∧ rk o2 = r) (r4 : r ≠ 4) (rr1 : 1 ≤ r) (hc1 : cntU [o1] = 0 ∧ cntU [o2] = 0) (ho : 0 ≤ o1 ∧ o1 < 40 ∧ 0 ≤ o2 ∧ o2 < 40) (hql : r < qlf) (hqf : r ≤ qf) (hbd : bdf = bd + 1) (hb0 : 0 ≤ bd ∧ bd ≤ 5) (hrm : rmf + 1 ≤ rm) (hne : c1 ≠ 301 ∧ c2 ≠ 301) (hcp : cp = false → 3 < r)
    (hbt : ∀ on cc, (cp = true → on = 41 ∧ cc = 1) → bt c1 on cc = o1 ∧ bt c2 on cc = (if c2 = c1 then o1 else o2))
    (hf : cFn E0 tx nn qlf qf bdf rmf nxf cp f) : cFn E0 tx nn r r bd rm (fun s => nxf s ∧ s ≠ c1 ∧ s ≠ c2) cp (aCh lx c1 c2 o1 o2 f) := by
  intro st P C T res hres hm hv hlo hon hP hC h219
  unfold aCh at hres
  cases e1 : f st with
  | none => rw [e1] at hres; cases hres
  | some r1 =>
    rw [e1] at hres
    dsimp only [Option.bind_some] at hres
    have p1 := hf st P C T r1 e1 hm hv (lowP_m (by omega) hlo) hon (by omega) hC h219
    have ho8 := hv.2.2
    -- the loop
    have loop : ∀ (F : Nat) (L : aC) (st' : aSt) (y : aF ⊕ (aC × aSt)), zLoop (aMo lx c1 c2 o1 o2 f) F (L, st') = some y → (∃ (R : List Int) (C' : aC) (T' : zP), mGo (st'.p - st.p) T T' ∧ mS E0 tx st' (R ++ P) (st.o + cntU R) 1 C' T' ∧ C' ++ emz R = C ++ L ∧ (∀ x ∈ R, r ≤ rk x) ∧ aV nn st' ∧ st'.o = st.o ∧ st.p < st'.p ∧ ((C'.length : Int) + R.length + P.length ≤ st'.p) ∧ ((R.length : Int) ≤ rm ∧ (R.length : Int) + P.length ≤ 100) ∧ nxf st'.s ∧ (cp = true → cP (R ++ P) = 1)) → cPost E0 tx nn r rm (fun s => nxf s ∧ s ≠ c1 ∧ s ≠ c2) cp st [] P C T (aLp y) := by
      intro F
      induction F with
      | zero => intro L st' y e; cases e
      | succ F ih =>
        intro L st' y e ⟨R, C', T', g1, g2, g3, g4, g5, g6, g7, g8, g9, g10, g11⟩
        rw [zLoop_s] at e
        have hv5 := g5.1
        by_cases hs : st'.s = c1 ∨ st'.s = c2
        · have hs301 : st'.s ≠ 301 := by
            rcases hs with x | x
            · rw [x]; exact hne.1
            · rw [x]; exact hne.2
          have hadv := g5.2.1 hs301
          obtain ⟨op, eop⟩ : ∃ op, op = if st'.s = c1 then o1 else o2 := ⟨_, rfl⟩
          have hop : rk op = r ∧ cntU [op] = 0 ∧ 0 ≤ op ∧ op < 40 := by
            rw [eop]
            split
            · exact ⟨hr.1, hc1.1, ho.1, ho.2.1⟩
            · exact ⟨hr.2, hc1.2, ho.2.2⟩
          have hR1 : ∀ x ∈ R, 1 ≤ rk x := fun x hx => by have := g4 x hx; omega
          have hb : bt st'.s (oN (R ++ P)) (cP (R ++ P)) = op := by
            have hq := hbt (oN (R ++ P)) (cP (R ++ P)) (fun x => ⟨by rw [oN_a R P hR1]; exact hon x, g11 x⟩)
            rw [eop]
            by_cases x : st'.s = c1
            · rw [if_pos x, x]; exact hq.1
            · rw [if_neg x, hs.resolve_left x, hq.2, if_neg (fun z => x ((hs.resolve_left x).trans z))]
          have c0 := cnt_0 R
          obtain ⟨T2, e2, m2⟩ := s_between hl hE t0 t1 R (q := r) g2 g5 hb hop.2.2.1 (by rw [hop.1, if_neg r4]) rr1 g4 hlo (by rw [List.length_append]; omega) (by omega) (by omega) (by omega) (by omega)
          rw [show st.o + cntU R - cntU R = st.o by omega] at m2
          have hvn := aV_nx hl g5
          have hnp := nx_p hl g5
          have hon' : (aNx lx st').o = st.o := g6
          have hem : (emz R).length = R.length := List.length_map _
          have gol : (C' ++ emz R).length = C'.length + R.length := by rw [List.length_append, hem]
          cases e3 : f (aNx lx st') with
          | none =>
            have : aMo lx c1 c2 o1 o2 f (L, st') = none := by
              unfold aMo
              dsimp only
              rw [if_pos hs, e3]; rfl
            rw [this] at e; cases e
          | some r3 =>
            have p3 := hf (aNx lx st') (op :: P) (C' ++ emz R) T2 r3 e3 (by rw [hon']; exact m2) hvn (by show rk op < qlf; omega) (fun x => by show (if 40 ≤ op then op else oN P) = 41; rw [if_neg (by omega)]; exact hon x) (by rw [hon', List.length_cons]; omega) (by rw [gol, List.length_cons]; omega) (fun x _ => aA_hd hop.2.2.2 (Or.inr (by rw [hop.1]; exact hcp x)))
            cases r3 with
            | inr q =>
              have e4 : aMo lx c1 c2 o1 o2 f (L, st') = some (.inl (.inl q)) := by
                unfold aMo
                dsimp only
                rw [if_pos hs, e3]; rfl
              rw [e4] at e
              cases e
              obtain ⟨pq, p3⟩ := p3
              exact ⟨by omega, mFl.tr (g1.tr (mGo.one (k := (aNx lx st').p - st'.p) (by omega) e2) (Int.le_refl _)) p3 (by omega)⟩
            | inl x =>
              obtain ⟨L3, st3⟩ := x
              have e4 : aMo lx c1 c2 o1 o2 f (L, st') = some (.inr (L ++ L3 ++ [(op, 0)], st3)) := by
                unfold aMo
                dsimp only
                rw [if_pos hs, e3, eop]; rfl
              rw [e4] at e
              have e : zLoop (aMo lx c1 c2 o1 o2 f) F (L ++ L3 ++ [(op, 0)], st3) = some y := e
              obtain ⟨R3, C3, T3, k1, k2, k3, k4, k5, k6, k7, k8, k9, k10, k11⟩ := p3
              refine ih _ st3 y e ⟨R3 ++ [op], C3, T3, (g1.tr (mGo.one (k := (aNx lx st').p - st'.p) (by omega) e2) (Int.le_refl _)).tr k1 (by omega), ?_, ?_, ?_, k5, k6.trans hon', by omega, ?_, ⟨?_, ?_⟩, k10, fun x => ?_⟩
              · rw [List.append_assoc, List.singleton_append, cnt_a, hop.2.1]
                rw [hon', show st.o - cntU [] + cntU R3 = st.o + (cntU R3 + 0) by show st.o - 0 + _ = _; omega] at k2
                exact k2
              · rw [emz_a, ← List.append_assoc, k3, show emz [] = [] from rfl, List.append_nil, g3]
                simp [emz, List.append_assoc]
              · intro z hz
                rcases List.mem_append.mp hz with a | a
                · have := k4 z a; omega
                · rw [List.mem_singleton.mp a, hop.1]; omega
              · rw [List.length_append, List.length_singleton]
                rw [List.length_cons] at k8
                omega
              · rw [List.length_append, List.length_singleton]
                have := k9.1
                omega
              · rw [List.length_append, List.length_singleton]
                have := k9.2
                rw [List.length_cons] at this
                omega
              · rw [List.append_assoc, List.singleton_append]; exact k11 x
        · have e4 : aMo lx c1 c2 o1 o2 f (L, st') = some (.inl (.inr (L, st'))) := by
            unfold aMo
            dsimp only
            rw [if_neg hs]
          rw [e4] at e
          cases e
          refine ⟨R, C', T', g1, ?_, ?_, g4, g5, g6, g7, g8, g9, ⟨g10, fun x => hs (Or.inl x), fun x => hs (Or.inr x)⟩, g11⟩
          · rw [show st.o - cntU [] + cntU R = st.o + cntU R by show st.o - 0 + _ = _; omega]; exact g2
          · rw [g3, show emz [] = [] from rfl, List.append_nil]
    cases r1 with
    | inr q =>
      cases hres
      exact p1
    | inl x =>
      obtain ⟨L, st'⟩ := x
      have hres : ((zLoop (aMo lx c1 c2 o1 o2 f) zFuel (L, st')).bind fun y => some (aLp y)) = some res := hres
      cases e2 : zLoop (aMo lx c1 c2 o1 o2 f) zFuel (L, st') with
      | none => rw [e2] at hres; cases hres
      | some y =>
        rw [e2] at hres
        cases hres
        obtain ⟨R, C', T', g1, g2, g3, g4, g5, g6, g7, g8, g9, g10, g11⟩ := p1
        refine loop zFuel L st' y e2 ⟨R, C', T', g1, ?_, ?_, fun x hx => by have := g4 x hx; omega, g5, g6, g7, g8, ⟨by have := g9.1; omega, g9.2⟩, g10, g11⟩
        · rw [show st.o - cntU [] + cntU R = st.o + cntU R by show st.o - 0 + _ = _; omega] at g2; exact g2
        · rw [g3, show emz [] = [] from rfl, List.append_nil]
end
