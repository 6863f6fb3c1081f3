/-! COMPONENT READING: a chain of signs is read -/
set_option maxRecDepth 100000
abbrev tRes : Type := ((Option Nat) × zGd × zMm) ⊕ (Nat × zGd × zMm)
abbrev tRd : Type := zGd → zMm → Option Nat → Option tRes
def tIn (V : Nat → (Nat → Prop) → zGd → zMm → Nat → aC → Prop) (D : Nat) (s : Int) (τ ta : Nat) (n : Int) (tp : Int → Int) (kd : Int) (g : zGd) (m : zMm) (st : aSt) (X : Option aX) (Y : Option tRes) : Prop :=
  ∃ C st' p g' m', X = some (.inl (C, st')) ∧ Y = some (.inl (some p, g', m')) ∧ cS τ ta n tp kd g' m' st' ∧ cG τ g m g' m' ∧ V D (fun q => zZ g ≤ q ∧ q < zZ g') g' m' p C ∧ aV n st' ∧ st.p < st'.p ∧ st'.o = st.o ∧ tBd g g' (50 * (st'.p - st.p) - s)
def tOut (e : Int) (τ : Nat) (g : zGd) (m : zMm) (st : aSt) (X : Option aX) (Y : Option tRes) : Prop := ∃ fl pl r, X = some (.inr (fl, pl)) ∧ Y = some (.inr r) ∧ cX τ g m (50 * (pl - st.p) + e) (60 * (50 * (pl - st.p) + e)) fl pl r ∧ st.p ≤ pl
def tFn (V : Nat → (Nat → Prop) → zGd → zMm → Nat → aC → Prop) (D : Int → Nat) (s e : Int) (N : Int → Prop) (τ ta : Nat) (n : Int) (tp : Int → Int) (kd : Int) (f : tRd) (h : aFn) : Prop := ∀ g m st, cS τ ta n tp kd g m st → aV n st → N st.o → tIn V (D st.o) s τ ta n tp kd g m st (h st) (f g m (some τ)) ∨ tOut e τ g m st (h st) (f g m (some τ))
theorem vN {tp : Int → Int} {n : Int} {st : aSt} (h : aV n st) : aV n (aNx (lx tp n) st) ∧ st.a ≤ (aNx (lx tp n) st).p ∧ (aNx (lx tp n) st).o = st.o := by
  have b := lx_b (tp := tp) (n := n) (a := st.a) (by have := h.1; omega) h.1.2.2
  obtain ⟨⟨h1, h2, h3⟩, h4, h5, h6⟩ := h
  refine ⟨⟨⟨?_, b.2.1, b.2.2.1⟩, b.2.2.2, h5, h6⟩, b.1, rfl⟩
  show 0 ≤ (lx tp n st.a).2.2.1
  have := b.1
  omega
def bChn (f1 : tRd) (c1 c2 : Int32) (a0 : Option Nat) (r3 : Option Nat) : zGd × zMm → Option (((tRes ⊕ (zGd × zMm))) ⊕ (zGd × zMm)) := fun (g16, m17) =>
(zgi g16 m17 3 4 a0).bind fun v18 =>
zEx (σ := Unit) (if v18 = c1 then (some (.inr ()))
else ((zgi g16 m17 3 4 a0).bind fun v20 =>
if v20 = c2 then (some (.inr ()))
else (some (.inl (.inl (.inr (g16, m17))))))) fun _ =>
(zgi g16 m17 3 4 a0).bind fun v21 =>
(zrc g16 3 a0 (f_X3_next g16 m17 a0)).bind fun (g22, m23) =>
zXd g22 3 a0 (f1 g22 m23 a0) (fun (q27, g28, m29) => some (.inl (.inl (.inr (q27, g28, m29))))) fun (r24, g25, m26) =>
(zrc g25 6 r3 (f_X6_add g25 m26 r3 v21 r24)).bind fun (g30, m31) =>
some (.inr (g30, m31))
def qChn (f1 : tRd) (c1 c2 : Int32) (g : zGd) (m : zMm) (a0 : Option Nat) : Option tRes :=
zlt (znewo g m 6) fun (g1, m2) =>
zlt (some (zZ g)) fun r3 =>
zXd g1 3 a0 (f1 g1 m2 a0) (fun (q7, g8, m9) => some (.inr (q7, g8, m9))) fun (r4, g5, m6) =>
zob r3 ((f_X6_init g5 m6 r3 r4).bind fun (g10, m11) =>
zEx (σ := zGd × zMm) (zLoop (bChn f1 c1 c2 a0 r3) zFuel (g10, m11)) fun (g13, m14) =>
(zrc g13 6 r3 (f_X6_itself g13 m14 r3)).bind fun r32 =>
some (.inl (r32, g13, m14)))
/-- while a chain is read -/
def tCh (D : Nat) (s : Int) (τ ta : Nat) (n : Int) (tp : Int → Int) (kd : Int) (g0 : zGd) (m0 : zMm) (st0 : aSt) (z c l1 l2 : Nat) (C0 : aC) (it : List cIt) (F : Nat → Prop) (g : zGd) (m : zMm) (st : aSt) : Prop :=
  (cS τ ta n tp kd g m st ∧ cG τ g0 m0 g m ∧ aV n st ∧ st0.p < st.p ∧ st.o = st0.o ∧ (it.length : Int) < st.p ∧ tBd g0 g (50 * (st.p - st0.p) - s)) ∧
  ((zK g z).1 = 7 ∧ zB g ≤ z ∧ zZ g0 ≤ z ∧ z < zZ g ∧ zR m z 0 = some c ∧ zR m z 1 = some l1 ∧ zR m z 2 = some l2) ∧
  (bl g m l1 (it.map fun e => e.1) ∧ bl g m l2 (it.map fun e => e.2.1) ∧ zZ g0 ≤ l1 ∧ zZ g0 ≤ l2 ∧ l1 ≠ l2) ∧
  ((∀ d, zR m l1 1 = some d → (d < zB g ∨ zZ g0 ≤ d) ∧ ¬ F d) ∧ (∀ d, zR m l2 1 = some d → (d < zB g ∨ zZ g0 ≤ d) ∧ ¬ F d) ∧ ∀ d, zR m l1 1 = some d → zR m l2 1 = some d → d < zB g) ∧
  (vS D F g m c C0 ∧ ∀ e ∈ it, itR D F g m e) ∧ (¬ F z ∧ ¬ F l1 ∧ ¬ F l2 ∧ ∀ q, F q → zZ g0 ≤ q ∧ q < zZ g)
theorem itR.mono {D D' : Nat} {F F' : Nat → Prop} {g g' : zGd} {m m' : zMm} {e : cIt} (h : itR D F g m e) (hD : D ≤ D') (hF : ∀ q, F q → F' q) (k : agF F g m g' m') : itR D' F' g' m' e := by
  have q := k.2.2 e.2.1 h.2.1
  refine ⟨h.1.mono hD hF k, ?_, by rw [q.1]; exact h.2.2.1, by rw [q.2.1]; exact h.2.2.2⟩
  rcases h.2.1 with y | y
  · exact Or.inl (hF _ y)
  · exact Or.inr (by rw [k.1]; exact y)
theorem bl_d {g : zGd} {m : zMm} {l : Nat} {xs : List Nat} (h : bl g m l xs) {d : Nat} (hd : zR m l 1 = some d) : d < zZ g ∧ (zK g d).1 = 105 := by
  obtain ⟨h1, h2, h3, h4, d', cap, h5, h6, h7, h8, h9⟩ := h
  rw [hd] at h5
  cases h5
  exact ⟨h6, by rw [h8]⟩
theorem bl_s {g g' : zGd} {m m' : zMm} {l : Nat} {xs : List Nat} (h : bl g m l xs) (hg : tGr g g') (hs : tSm (fun q => q = l ∨ zR m l 1 = some q) m m') : bl g' m' l xs :=
  bl_c h hg.1.1 hg.1.2.1 hg.1.2.2.1 hg.2 (by rw [(hs l (Or.inl rfl)).1]) (by rw [(hs l (Or.inl rfl)).2.2]) (fun d hd => (hs d (Or.inr hd)).2.2)
theorem vS_k {D : Nat} {F : Nat → Prop} {g : zGd} {m : zMm} {p : Nat} {C : aC} (h : vS D F g m p C) : kOk g p := by
  have := h.1.2
  unfold kOk
  omega
section
variable {τ ta : Nat} {n kd : Int} {tp : Int → Int} {f1 : tRd} {h1 : aFn} {c1 c2 : Int32} {i1 i2 o1 o2 : Int} {Df : Int → Nat} {s1 e1 s e : Int} {N : Int → Prop}
theorem ch_step (hb : ∀ i, 0 ≤ i → i < n → 0 ≤ tp i ∧ tp i ≤ 255) (n300 : n ≤ 300) (hf : tFn vS Df s1 e1 N τ ta n tp kd f1 h1) (hc1 : c1.toInt = i1) (hc2 : c2.toInt = i2) (hi : (0 ≤ i1 ∧ i1 < 128) ∧ (0 ≤ i2 ∧ i2 < 128)) (ho1 : sgO i1 = o1) (ho2 : sgO i2 = o2) (s10 : 0 ≤ s1) (se : e1 - s ≤ e + 50) {g0 : zGd} {m0 : zMm} {st0 : aSt} {z c l1 l2 : Nat} {C0 : aC} (hτ : τ < zZ g0) (hta : ta < zZ g0) (hB0 : zB g0 ≤ zZ g0) (hN : N st0.o) {it : List cIt} {F : Nat → Prop} {g : zGd} {m : zMm} {st : aSt} (h : tCh (Df st0.o) s τ ta n tp kd g0 m0 st0 z c l1 l2 C0 it F g m st) :
    (aMo (lx tp n) i1 i2 o1 o2 h1 (chC C0 it, st) = some (.inl (.inr (chC C0 it, st))) ∧ bChn f1 c1 c2 (some τ) (some z) (g, m) = some (.inl (.inr (g, m)))) ∨
    (∃ it' F' g' m' st', aMo (lx tp n) i1 i2 o1 o2 h1 (chC C0 it, st) = some (.inr (chC C0 it', st')) ∧ bChn f1 c1 c2 (some τ) (some z) (g, m) = some (.inr (g', m')) ∧ st.p < st'.p ∧ tCh (Df st0.o) s τ ta n tp kd g0 m0 st0 z c l1 l2 C0 it' F' g' m' st') ∨
    (∃ fl pl r, aMo (lx tp n) i1 i2 o1 o2 h1 (chC C0 it, st) = some (.inl (.inl (fl, pl))) ∧ bChn f1 c1 c2 (some τ) (some z) (g, m) = some (.inl (.inl (.inr r))) ∧ cX τ g0 m0 (50 * (pl - st0.p) + e) (60 * (50 * (pl - st0.p) + e)) fl pl r ∧ st0.p ≤ pl) := by
  obtain ⟨⟨a1, a2, a3, a4, a5, a6, a7⟩, ⟨b1, b2, b3, b4, b5, b6, b7⟩, ⟨d1, d2, d3, d4, d5⟩, ⟨x1, x2, x3⟩, ⟨y1, y2⟩, z1, z2, z3, z4⟩ := h
  have hs := a1.2.1.2.2.1
  have q1 := i_eq hs hc1
  have q2 := i_eq hs hc2
  have kτ := cS_k a1
  have hbg : zB g = zB g0 := a2.1.1
  have hzg := a2.1.2.2.1
  obtain ⟨P, eP⟩ : ∃ P : Option ((((tRes ⊕ (zGd × zMm))) ⊕ (zGd × zMm))), P = ((zrc g 3 (some τ) (f_X3_next g m (some τ))).bind fun (g22, m23) => zXd g22 3 (some τ) (f1 g22 m23 (some τ)) (fun (q27, g28, m29) => some (.inl (.inl (.inr (q27, g28, m29))))) fun (r24, g25, m26) => (zrc g25 6 (some z) (f_X6_add g25 m26 (some z) (zI m τ 4) r24)).bind fun (g30, m31) => some (.inr (g30, m31))) := ⟨_, rfl⟩
  have pre : bChn f1 c1 c2 (some τ) (some z) (g, m) = if st.s = i1 ∨ st.s = i2 then P else some (.inl (.inr (g, m))) := by
    unfold bChn
    dsimp only
    rw [e_gi (ci := 3) kτ, Option.bind_some, Option.bind_some]
    unfold zEx
    by_cases w1 : zI m τ 4 = c1
    · rw [if_pos w1, if_pos (Or.inl (q1.mp w1)), eP]; rfl
    · rw [if_neg w1]
      by_cases w2 : zI m τ 4 = c2
      · rw [if_pos w2, if_pos (Or.inr (q2.mp w2)), eP]; rfl
      · rw [if_neg w2, if_neg (fun y => y.elim (fun u => w1 (q1.mpr u)) (fun u => w2 (q2.mpr u)))]; rfl
  rw [pre]
  by_cases w : st.s = i1 ∨ st.s = i2
  · right
    have hs0 : 0 ≤ st.s ∧ st.s < 128 := by rcases w with u | u <;> omega
    have hpa : st.p < st.a := a3.2.1 (by omega)
    obtain ⟨m1, en, fn, hS1⟩ := cS_next hb n300 a1 a3
    obtain ⟨v1, v2, v3⟩ := vN (tp := tp) a3
    obtain ⟨sn, esn⟩ : ∃ sn, sn = aNx (lx tp n) st := ⟨_, rfl⟩
    rw [← esn] at hS1 v1 v2 v3
    have hop : (if st.s = i1 then o1 else o2) = sgO st.s := by
      by_cases u : st.s = i1
      · rw [if_pos u, u, ho1]
      · rw [if_neg u, w.resolve_left u, ho2]
    have am : aMo (lx tp n) i1 i2 o1 o2 h1 (chC C0 it, st) = (h1 sn).bind fun r => match r with
      | .inl x => some (.inr (chC C0 it ++ x.1 ++ [(sgO st.s, 0)], x.2))
      | .inr q => some (.inl (.inl q)) := by
      unfold aMo
      dsimp only
      rw [if_pos w, ← esn, hop]
      rfl
    rw [am, if_pos w]
    have cgn : cG τ g m g m1 := cG.tk fn
    have h0n : cG τ g0 m0 g m1 := a2.tr cgn
    rcases hf g m1 sn hS1 v1 (by rw [v3, a5]; exact hN) with ⟨C, st', p, g2, m2, r1, r2, r3, r4, r5, r6, r7, r8, r9⟩ | ⟨fl, pl, r, r1, r2, r3, r4⟩
    · left
      have gm2 : cG τ g m g2 m2 := cgn.tr r4
      have g02 : cG τ g0 m0 g2 m2 := a2.tr gm2
      have hg2 := gm2.gr
      have sm2 := gm2.sm
      have hb2 : zB g2 = zB g := hg2.1.1
      have hz2 := hg2.1.2.2.1
      have dτ1 : ∀ d, zR m l1 1 = some d → d ≠ τ := fun d hd => by
        have := (x1 d hd).1
        have := (cS_b a1).1
        omega
      have dτ2 : ∀ d, zR m l2 1 = some d → d ≠ τ := fun d hd => by
        have := (x2 d hd).1
        have := (cS_b a1).1
        omega
      have l1z := d1.2.2.1
      have l2z := d2.2.2.1
      have B1 : bl g2 m2 l1 (it.map fun e => e.1) := bl_s d1 hg2 (sm2.wk fun q hq => by
        rcases hq with y | y
        · omega
        · exact ⟨(bl_d d1 y).1, dτ1 q y⟩)
      have B2 : bl g2 m2 l2 (it.map fun e => e.2.1) := bl_s d2 hg2 (sm2.wk fun q hq => by
        rcases hq with y | y
        · omega
        · exact ⟨(bl_d d2 y).1, dτ2 q y⟩)
      have Rz : zR m2 z = zR m z := (sm2 z ⟨b4, by omega⟩).2.2
      have R1 : zR m2 l1 = zR m l1 := (sm2 l1 ⟨l1z, by omega⟩).2.2
      have R2 : zR m2 l2 = zR m l2 := (sm2 l2 ⟨l2z, by omega⟩).2.2
      have kz2 : (zK g2 z).1 = 6 + 1 := by rw [hg2.2 z b4]; exact b1
      obtain ⟨q, eq, qb, qk, qv⟩ := b_val r3.2.2 hs hs0.1 hs0.2
      have hlen : it.length ≤ 300 := by have := a3.1; omega
      obtain ⟨g3, m3, e3, S3, B23, G3, s3, t3, n3⟩ := t_add r3 hτ hta (by rw [hb2, hbg]; exact hB0) (by omega) B2 d4 (fun d hd => by rw [R2] at hd; have := (x2 d hd).1; omega) (by rw [List.length_map]; exact hlen) (x := q) (by unfold kOk; omega) (by have := (cS_b r3).2.2.2; omega)
      have l1d2 : ∀ d, zR m2 l2 1 = some d → l1 ≠ d := fun d hd y => by
        have u := (bl_d B2 hd).2
        rw [← y, B1.1] at u
        omega
      have l2d1 : ∀ d, zR m2 l1 1 = some d → l2 ≠ d := fun d hd y => by
        have u := (bl_d B1 hd).2
        rw [← y, B2.1] at u
        omega
      have zd2 : ∀ d, zR m2 l2 1 = some d → z ≠ d := fun d hd y => by
        have u := (bl_d B2 hd).2
        rw [← y, kz2] at u
        omega
      have zd1 : ∀ d, zR m2 l1 1 = some d → z ≠ d := fun d hd y => by
        have u := (bl_d B1 hd).2
        rw [← y, kz2] at u
        omega
      have zl1 : z ≠ l1 := fun y => by have u := B1.1; rw [← y, kz2] at u; omega
      have zl2 : z ≠ l2 := fun y => by have u := B2.1; rw [← y, kz2] at u; omega
      have l1z2 := B1.2.2.1
      have l2z2 := B2.2.2.1
      have s3l1 := s3 l1 ⟨l1z2, d5, fun d a b => l1d2 d a⟩
      have s3z := s3 z ⟨by omega, zl2, fun d a b => zd2 d a⟩
      have B13 : bl g3 m3 l1 (it.map fun e => e.1) := bl_s B1 G3 (s3.wk fun q hq => by
        rcases hq with y | y
        · rw [y]; exact ⟨l1z2, d5, fun d a b => l1d2 d a⟩
        · refine ⟨(bl_d B1 y).1, fun y2 => l2d1 q y y2.symm, fun d a b y2 => ?_⟩
          rw [R1] at y
          rw [R2] at a
          have := x3 q y (by rw [y2]; exact a)
          omega)
      have hz3 := G3.1.2.2.1
      have kz3 : (zK g3 z).1 = 6 + 1 := by rw [G3.2 z (by omega)]; exact kz2
      have kp := vS_k r5
      have pz := r5.1.1
      obtain ⟨g4, m4, e4, S4, B14, G4, s4, t4, n4⟩ := t_add S3 hτ hta (by rw [G3.1.1, hb2, hbg]; exact hB0) (by omega) B13 d3 (fun d hd => by rw [s3l1.2.2, R1] at hd; have := (x1 d hd).1; have := G3.1.1; omega) (by rw [List.length_map]; exact hlen) (x := p) (by unfold kOk; rw [G3.2 p pz.2]; exact kp) (by omega)
      have hz4 := G4.1.2.2.1
      have l1R3 : zR m3 l1 1 = zR m l1 1 := by rw [s3l1.2.2, R1]
      have s4z := s4 z ⟨by omega, zl1, fun d a b => zd1 d (by rw [← R1] at l1R3; rw [← l1R3]; exact a)⟩
      have l2d13 : ∀ d, zR m3 l1 1 = some d → l2 ≠ d := fun d hd => l2d1 d (by rw [R1, ← l1R3]; exact hd)
      have s4l2 := s4 l2 ⟨by omega, Ne.symm d5, fun d a b => l2d13 d a⟩
      have B24 : bl g4 m4 l2 ((it.map fun e => e.2.1) ++ [q]) := bl_s B23 G4 (s4.wk fun k hk => by
        rcases hk with y | y
        · rw [y]; exact ⟨by omega, Ne.symm d5, fun d a b => l2d13 d a⟩
        · refine ⟨(bl_d B23 y).1, fun y2 => ?_, fun d a b y2 => ?_⟩
          · have u := (bl_d B23 y).2
            rw [y2, B13.1] at u
            omega
          · have dz : d < zZ g2 := (bl_d B1 (d := d) (by rw [R1, ← l1R3]; exact a)).1
            rcases n3 k y with u | u
            · rw [R2] at u
              rw [l1R3] at a
              have := x3 d a (by rw [← y2]; exact u)
              have := G3.1.1
              omega
            · omega)
      obtain ⟨F', eF'⟩ : ∃ F' : Nat → Prop, F' = fun k => F k ∨ (zZ g ≤ k ∧ k < zZ g2) := ⟨_, rfl⟩
      have hF1 : ∀ k, F k → F' k := fun k hk => by rw [eF']; exact Or.inl hk
      have hF2 : ∀ k, (zZ g ≤ k ∧ k < zZ g2) → F' k := fun k hk => by rw [eF']; exact Or.inr hk
      have nF' : ∀ k, ¬ F k → ¬ (zZ g ≤ k ∧ k < zZ g2) → ¬ F' k := fun k a b y => by
        rw [eF'] at y
        exact y.elim a b
      have nd2 : ∀ d, zR m4 l2 1 = some d → (d < zB g4 ∨ zZ g0 ≤ d) ∧ ¬ F' d ∧ (zR m l2 1 = some d ∨ zZ g2 ≤ d) := fun d hd => by
        rw [s4l2.2.2] at hd
        rcases n3 d hd with u | u
        · rw [R2] at u
          have w1 := x2 d u
          have w2 := bl_d d2 u
          refine ⟨?_, nF' d w1.2 (by omega), Or.inl u⟩
          have := G4.1.1; have := G3.1.1
          omega
        · exact ⟨by omega, nF' d (fun y => by have := z4 d y; omega) (by omega), Or.inr u⟩
      have nd1 : ∀ d, zR m4 l1 1 = some d → (d < zB g4 ∨ zZ g0 ≤ d) ∧ ¬ F' d ∧ (zR m l1 1 = some d ∨ zZ g3 ≤ d) := fun d hd => by
        rcases n4 d hd with u | u
        · rw [l1R3] at u
          have w1 := x1 d u
          have w2 := bl_d d1 u
          refine ⟨?_, nF' d w1.2 (by omega), Or.inl u⟩
          have := G4.1.1; have := G3.1.1
          omega
        · exact ⟨by omega, nF' d (fun y => by have := z4 d y; omega) (by omega), Or.inr u⟩
      -- what was meant stays
      have keep : tSm (fun k => k < zZ g2 ∧ ((F' k) ∨ k < zB g2)) m2 m4 := fun k hk => by
        have nk1 : k ≠ l1 ∧ k ≠ l2 := by
          rcases hk.2 with y | y
          · rw [eF'] at y
            rcases y with y | y
            · exact ⟨fun u => z2 (u ▸ y), fun u => z3 (u ▸ y)⟩
            · omega
          · have := d1.2.1; have := d2.2.1; omega
        have u3 := s3 k ⟨hk.1, nk1.2, fun d a b y => by
          rw [R2] at a
          have w1 := x2 d a
          have w2 := bl_d d2 a
          rcases hk.2 with u | u
          · rw [eF'] at u
            rcases u with u | u
            · exact w1.2 (y ▸ u)
            · omega
          · omega⟩
        have u4 := s4 k ⟨by omega, nk1.1, fun d a b y => by
          rw [l1R3] at a
          have w1 := x1 d a
          have w2 := bl_d d1 a
          have := G3.1.1
          rcases hk.2 with u | u
          · rw [eF'] at u
            rcases u with u | u
            · exact w1.2 (y ▸ u)
            · omega
          · omega⟩
        exact ⟨u4.1.trans u3.1, u4.2.1.trans u3.2.1, u4.2.2.trans u3.2.2⟩
      have hB2 := (cS_b r3).2.2.2
      have G24 := G3.tr G4
      have F'z : ∀ k, F' k → k < zZ g2 := fun k hk => by
        rw [eF'] at hk
        rcases hk with y | y
        · have := z4 k y; omega
        · omega
      have ag24 : agF F' g2 m2 g4 m4 := agF_s G24 (keep.wk fun k hk => ⟨hk.elim (F'z k) (fun y => by omega), hk⟩) F'z hB2
      have ag02 : agF F g m g2 m2 := agF_s hg2 (sm2.wk fun k hk => by
        have := (cS_b a1).1
        have := (cS_b a1).2.2.2
        rcases hk with y | y
        · have := z4 k y; omega
        · omega) (fun k hk => (z4 k hk).2) (cS_b a1).2.2.2
      have qg2 : q < zB g2 := qb
      have k24 := ag24.2.2 q (Or.inr qg2)
      refine ⟨it ++ [(p, q, st.s, C)], F', g4, m4, st', ?_, ?_, by omega, ⟨S4, ?_, r6, by omega, by omega, ?_, ?_⟩, ⟨?_, ?_, b3, by omega, ?_, ?_, ?_⟩, ⟨?_, ?_, d3, d4, d5⟩, ⟨fun d hd => ⟨(nd1 d hd).1, (nd1 d hd).2.1⟩, fun d hd => ⟨(nd2 d hd).1, (nd2 d hd).2.1⟩, fun d u1 u2 => ?_⟩, ⟨?_, fun e he => ?_⟩, nF' z z1 (by omega), nF' l1 z2 (by omega), nF' l2 z3 (by omega), fun k hk => ?_⟩
      · rw [r1, chC_s]; rfl
      · rw [eP, e_rc (ci := 3) kτ, en]
        show zXd g 3 (some τ) (f1 g m1 (some τ)) _ _ = _
        rw [e_xe r2, e_xl (ci := 3) kτ]
        show ((zrc g2 6 (some z) (f_X6_add g2 m2 (some z) (zI m τ 4) (some p))).bind _) = _
        rw [e_rc (ci := 6) kz2]
        have : f_X6_add g2 m2 (some z) (zI m τ 4) (some p) = some (g4, m4) := by
          unfold f_X6_add
          rw [e_gr (ci := 6) kz2, Rz, b7, Option.bind_some, eq]
          show ((zrc g2 17 (some l2) (f_J2_add g2 m2 (some l2) (some q))).bind _) = _
          rw [e3]
          show ((zgr g3 m3 6 1 (some z)).bind _) = _
          rw [e_gr (ci := 6) kz3, s3z.2.2, Rz, b6]
          show ((zrc g3 17 (some l1) (f_J2_add g3 m3 (some l1) (some p))).bind _) = _
          rw [e4]; rfl
        rw [this]; rfl
      · exact g02.st G24 (fun k hk => by
          have u3 := s3 k ⟨by omega, by omega, fun d a b => by rw [R2] at a; have := (x2 d a).1; omega⟩
          have u4 := s4 k ⟨by omega, by omega, fun d a b => by rw [l1R3] at a; have := (x1 d a).1; have := G3.1.1; omega⟩
          exact ⟨u4.1.trans u3.1, u4.2.1.trans u3.2.1, u4.2.2.trans u3.2.2⟩) hτ
      · rw [List.length_append]; show ((it.length + 1 : Nat) : Int) < st'.p; omega
      · have w1 := a7.tr r9 (Int.le_refl _)
        exact (w1.tr t3 (Int.le_refl _)).tr t4 (by omega)
      · rw [G4.2 z (by omega)]; exact kz3
      · rw [G24.1.1, hb2]; exact b2
      · rw [s4z.2.2, s3z.2.2, Rz]; exact b5
      · rw [s4z.2.2, s3z.2.2, Rz]; exact b6
      · rw [s4z.2.2, s3z.2.2, Rz]; exact b7
      · rw [List.map_append]; exact B14
      · rw [List.map_append]; exact B24
      · have w1 := nd1 d u1
        have w2 := nd2 d u2
        have := G4.1.1
        have := G3.1.1
        rcases w2.2.2 with y2 | y2
        · have w3 := bl_d d2 y2
          rcases w1.2.2 with y1 | y1
          · have := x3 d y1 y2; omega
          · omega
        · rcases w1.2.2 with y1 | y1
          · have w3 := bl_d d1 y1; omega
          · exfalso
            have u2' := u2
            rw [s4l2.2.2] at u2'
            have := (bl_d B23 u2').1
            omega
      · exact (y1.mono (Nat.le_refl _) hF1 ag02).mono (Nat.le_refl _) (fun _ y => y) ag24
      · rcases List.mem_append.mp he with y | y
        · exact ((y2 e y).mono (Nat.le_refl _) hF1 ag02).mono (Nat.le_refl _) (fun _ y => y) ag24
        · rw [List.mem_singleton.mp y]
          rw [v3, a5] at r5
          refine ⟨(r5.mono (Nat.le_refl _) hF2 ⟨rfl, rfl, fun _ _ => ⟨rfl, rfl, rfl⟩⟩).mono (Nat.le_refl _) (fun _ y => y) ag24, Or.inr ?_, ?_, ?_⟩
          · show q < zB g4
            rw [G24.1.1]; exact qg2
          · show (zK g4 q).1 = 20
            rw [k24.1]; exact qk
          · show (zI m4 q 0).toInt = st.s
            rw [k24.2.1]; exact qv
      · have := F'z k hk
        rw [eF'] at hk
        rcases hk with y | y
        · have := z4 k y; omega
        · omega
    · right
      refine ⟨fl, pl, r, by rw [r1]; rfl, ?_, ?_, by omega⟩
      · rw [eP, e_rc (ci := 3) kτ, en]
        show zXd g 3 (some τ) (f1 g m1 (some τ)) _ _ = _
        rw [e_xe r2, e_xr (ci := 3) kτ r3.1]
      · exact cX.tr h0n a7.1 a7.2 r3 (by omega) (by omega)
  · left
    rw [if_neg w]
    refine ⟨?_, rfl⟩
    unfold aMo
    dsimp only
    rw [if_neg w]
end
