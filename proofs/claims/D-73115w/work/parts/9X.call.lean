/-! COMPONENT READING: askings in a row are read -/
set_option maxRecDepth 100000
def bAll (f1 : tRd) (c : Int32) (a0 : Option Nat) (r3 : Option Nat) : zGd × zMm → Option (((tRes ⊕ (zGd × zMm))) ⊕ (zGd × zMm)) := fun (g18, m19) =>
(zgi g18 m19 3 4 a0).bind fun v20 =>
if v20 = c then ((zrc g18 3 a0 (f_X3_next g18 m19 a0)).bind fun (g21, m22) =>
zXd g21 3 a0 (f1 g21 m22 a0) (fun (q26, g27, m28) => some (.inl (.inl (.inr (q26, g27, m28))))) fun (r23, g24, m25) =>
(zrc g24 17 r3 (f_J2_add g24 m25 r3 r23)).bind fun (v29, g30, m31) =>
some (.inr (g30, m31)))
else (some (.inl (.inr (g18, m19))))
def qAll (f1 : tRd) (c an : Int32) (g : zGd) (m : zMm) (a0 : Option Nat) : Option tRes :=
zlt (znewo g m 17) fun (g1, m2) =>
zlt (some (zZ g)) fun r3 =>
zob r3 ((f_J2_init g1 m2 r3).bind fun m4 =>
zXd g1 3 a0 (f1 g1 m4 a0) (fun (q8, g9, m10) => some (.inr (q8, g9, m10))) fun (r5, g6, m7) =>
(zrc g6 17 r3 (f_J2_add g6 m7 r3 r5)).bind fun (v11, g12, m13) =>
zEx (σ := zGd × zMm) (zLoop (bAll f1 c a0 r3) zFuel (g12, m13)) fun (g15, m16) =>
(zrc g15 17 r3 (f_J2_size g15 m16 r3)).bind fun v32 =>
if v32 = (1 : Int32) then ((zrc g15 17 r3 (f_J2_get g15 m16 r3 (0 : Int32))).bind fun r37 =>
(zcst [8, 9, 10] g15 r37).bind fun _ =>
some (.inl (r37, g15, m16)))
else (zlt (znewo g15 m16 10) fun (g33, m34) =>
zlt (some (zZ g15)) fun r35 =>
zob r35 ((f_X10_init g33 m34 r35 an r3).bind fun m36 =>
some (.inl (r35, g33, m36)))))
/-- while a row is read -/
def tAl (D : Nat) (s : Int) (τ ta : Nat) (n : Int) (tp : Int → Int) (kd : Int) (g0 : zGd) (m0 : zMm) (st0 : aSt) (l : Nat) (e0 : cAt) (it : List cAt) (F : Nat → Prop) (g : zGd) (m : zMm) (st : aSt) : Prop :=
  (cS τ ta n tp kd g m st ∧ cG τ g0 m0 g m ∧ aV n st ∧ st0.p < st.p ∧ st.o = st0.o ∧ (it.length : Int) < st.p ∧ tBd g0 g (50 * (st.p - st0.p) - s)) ∧
  (bl g m l ((e0 :: it).map fun e => e.1) ∧ zZ g0 ≤ l) ∧ (∀ d, zR m l 1 = some d → (d < zB g ∨ zZ g0 ≤ d) ∧ ¬ F d) ∧
  (∀ e ∈ e0 :: it, vA D F g m e.1 e.2) ∧ ¬ F l ∧ ∀ q, F q → zZ g0 ≤ q ∧ q < zZ g
theorem vA_k {D : Nat} {F : Nat → Prop} {g : zGd} {m : zMm} {p : Nat} {C : aC} (h : vA D F g m p C) : kOk g p := by
  have := h.1.2
  unfold kOk
  omega
section
variable {τ ta : Nat} {n kd : Int} {tp : Int → Int} {f1 : tRd} {h1 : aFn} {c : Int32} {i1 o : Int} {Df : Int → Nat} {s1 e1 s e : Int} {N : Int → Prop}
/-- one more in the list -/
theorem al_add {D : Nat} {g0 : zGd} {m0 : zMm} {g g2 : zGd} {m m2 : zMm} {l p : Nat} {xs : List Nat} {st' : aSt} {C : aC} {L : List cAt} {F : Nat → Prop} (hτ : τ < zZ g0) (hta : ta < zZ g0) (hB0 : zB g0 ≤ zZ g0) (hl : bl g m l xs) (hl0 : zZ g0 ≤ l) (hd : ∀ d, zR m l 1 = some d → (d < zB g ∨ zZ g0 ≤ d) ∧ ¬ F d) (hn : xs.length ≤ 300) (hL : ∀ e ∈ L, vA D F g m e.1 e.2) (hFl : ¬ F l) (hF : ∀ q, F q → zZ g0 ≤ q ∧ q < zZ g) (h0 : cG τ g0 m0 g m) (hb : zB g ≤ zZ g) (hbτ : zB g ≤ τ) (h2 : cG τ g m g2 m2) (hS : cS τ ta n tp kd g2 m2 st') (hv : vA D (fun q => zZ g ≤ q ∧ q < zZ g2) g2 m2 p C) : ∃ g' m' F', zrc g2 17 (some l) (f_J2_add g2 m2 (some l) (some p)) = some (1, g', m') ∧ cS τ ta n tp kd g' m' st' ∧ cG τ g0 m0 g' m' ∧ bl g' m' l (xs ++ [p]) ∧ tBd g2 g' 11 ∧ (∀ d, zR m' l 1 = some d → (d < zB g' ∨ zZ g0 ≤ d) ∧ ¬ F' d) ∧ (∀ e ∈ L ++ [(p, C)], vA D F' g' m' e.1 e.2) ∧ ¬ F' l ∧ (∀ q, F' q → zZ g0 ≤ q ∧ q < zZ g') := by
  have hg2 := h2.gr
  have sm2 := h2.sm
  have hb2 : zB g2 = zB g := hg2.1.1
  have hbg : zB g = zB g0 := h0.1.1
  have hzg := h0.1.2.2.1
  have hz2 := hg2.1.2.2.1
  have lz := hl.2.2.1
  have B1 : bl g2 m2 l xs := bl_s hl hg2 (sm2.wk fun q hq => by
    rcases hq with y | y
    · omega
    · refine ⟨(bl_d hl y).1, ?_⟩
      have := (hd q y).1
      omega)
  have R1 : zR m2 l = zR m l := (sm2 l ⟨lz, by omega⟩).2.2
  obtain ⟨g3, m3, e3, S3, B3, G3, s3, t3, n3⟩ := t_add hS hτ hta (by rw [hb2, hbg]; exact hB0) (by omega) B1 hl0 (fun d hd' => by rw [R1] at hd'; have := (hd d hd').1; omega) hn (x := p) (vA_k hv) hv.1.1.2
  have hz3 := G3.1.2.2.1
  obtain ⟨F', eF'⟩ : ∃ F' : Nat → Prop, F' = fun k => F k ∨ (zZ g ≤ k ∧ k < zZ g2) := ⟨_, rfl⟩
  have hF1 : ∀ k, F k → F' k := fun k hk => by rw [eF']; exact Or.inl hk
  have hF2 : ∀ k, (zZ g ≤ k ∧ k < zZ g2) → F' k := fun k hk => by rw [eF']; exact Or.inr hk
  have nF' : ∀ k, ¬ F k → ¬ (zZ g ≤ k ∧ k < zZ g2) → ¬ F' k := fun k a b y => by
    rw [eF'] at y
    exact y.elim a b
  have F'z : ∀ k, F' k → zZ g0 ≤ k ∧ k < zZ g2 := fun k hk => by
    rw [eF'] at hk
    rcases hk with y | y
    · have := hF k y; omega
    · omega
  have hB2 := (cS_b hS).2.2.2
  have ag24 : agF F' g2 m2 g3 m3 := agF_s G3 (s3.wk fun k hk => by
    have kz : k < zZ g2 := hk.elim (fun y => (F'z k y).2) (fun y => by omega)
    refine ⟨kz, fun y => ?_, fun d a b y => ?_⟩
    · rcases hk with u | u
      · exact nF' l hFl (by omega) (y ▸ u)
      · have := hl.2.1; omega
    · rw [R1] at a
      have w1 := hd d a
      have w2 := bl_d hl a
      rcases hk with u | u
      · exact nF' d w1.2 (by omega) (y ▸ u)
      · omega) (fun k hk => (F'z k hk).2) hB2
  have ag02 : agF F g m g2 m2 := agF_s hg2 (sm2.wk fun k hk => by
    rcases hk with y | y
    · have := hF k y; omega
    · omega) (fun k hk => (hF k hk).2) hb
  refine ⟨g3, m3, F', e3, S3, ?_, B3, t3, fun d hd' => ?_, fun e he => ?_, nF' l hFl (by omega), fun q hq => ?_⟩
  · exact (h0.tr h2).st G3 (s3.wk fun k hk => ⟨by omega, by omega, fun d a b => by rw [R1] at a; have := (hd d a).1; omega⟩) hτ
  · rcases n3 d hd' with u | u
    · rw [R1] at u
      have w1 := hd d u
      have w2 := bl_d hl u
      refine ⟨?_, nF' d w1.2 (by omega)⟩
      have := G3.1.1
      omega
    · exact ⟨by omega, nF' d (fun y => by have := hF d y; omega) (by omega)⟩
  · rcases List.mem_append.mp he with y | y
    · exact ((hL e y).mono (Nat.le_refl _) hF1 ag02).mono (Nat.le_refl _) (fun _ y => y) ag24
    · rw [List.mem_singleton.mp y]
      exact (hv.mono (Nat.le_refl _) hF2 ⟨rfl, rfl, fun _ _ => ⟨rfl, rfl, rfl⟩⟩).mono (Nat.le_refl _) (fun _ y => y) ag24
  · have := F'z q hq; omega
theorem al_step (hb : ∀ i, 0 ≤ i → i < n → 0 ≤ tp i ∧ tp i ≤ 255) (n300 : n ≤ 300) (hf : tFn vA Df s1 e1 N τ ta n tp kd f1 h1) (hc : c.toInt = i1) (hi : i1 ≠ 301) (s10 : 0 ≤ s1) (se : e1 - s ≤ e + 50) {g0 : zGd} {m0 : zMm} {st0 : aSt} {l : Nat} {e0 : cAt} (hτ : τ < zZ g0) (hta : ta < zZ g0) (hB0 : zB g0 ≤ zZ g0) (hN : N st0.o) {it : List cAt} {F : Nat → Prop} {g : zGd} {m : zMm} {st : aSt} (h : tAl (Df st0.o) s τ ta n tp kd g0 m0 st0 l e0 it F g m st) :
    (aMo (lx tp n) i1 i1 o o h1 (allC o e0.2 it, st) = some (.inl (.inr (allC o e0.2 it, st))) ∧ bAll f1 c (some τ) (some l) (g, m) = some (.inl (.inr (g, m)))) ∨
    (∃ it' F' g' m' st', aMo (lx tp n) i1 i1 o o h1 (allC o e0.2 it, st) = some (.inr (allC o e0.2 it', st')) ∧ bAll f1 c (some τ) (some l) (g, m) = some (.inr (g', m')) ∧ st.p < st'.p ∧ tAl (Df st0.o) s τ ta n tp kd g0 m0 st0 l e0 it' F' g' m' st') ∨
    (∃ fl pl r, aMo (lx tp n) i1 i1 o o h1 (allC o e0.2 it, st) = some (.inl (.inl (fl, pl))) ∧ bAll f1 c (some τ) (some l) (g, m) = some (.inl (.inl (.inr r))) ∧ cX τ g0 m0 (50 * (pl - st0.p) + e) (60 * (50 * (pl - st0.p) + e)) fl pl r ∧ st0.p ≤ pl) := by
  obtain ⟨⟨a1, a2, a3, a4, a5, a6, a7⟩, ⟨d1, d2⟩, d3, d4, d5, d6⟩ := h
  have hs := a1.2.1.2.2.1
  have q1 := i_eq hs hc
  have kτ := cS_k a1
  have cb := cS_b a1
  by_cases w : st.s = i1
  · right
    have hpa : st.p < st.a := a3.2.1 (by omega)
    obtain ⟨m1, en, fn, hS1⟩ := cS_next hb n300 a1 a3
    obtain ⟨v1, v2, v3⟩ := vN (tp := tp) a3
    obtain ⟨sn, esn⟩ : ∃ sn, sn = aNx (lx tp n) st := ⟨_, rfl⟩
    rw [← esn] at hS1 v1 v2 v3
    have am : aMo (lx tp n) i1 i1 o o h1 (allC o e0.2 it, st) = (h1 sn).bind fun r => match r with
      | .inl x => some (.inr (allC o e0.2 it ++ x.1 ++ [(o, 0)], x.2))
      | .inr q => some (.inl (.inl q)) := by
      unfold aMo
      dsimp only
      rw [if_pos (Or.inl w), ← esn, if_pos w]
      rfl
    have pre : bAll f1 c (some τ) (some l) (g, m) = zXd g 3 (some τ) (f1 g m1 (some τ)) (fun (q26, g27, m28) => some (.inl (.inl (.inr (q26, g27, m28))))) fun (r23, g24, m25) => (zrc g24 17 (some l) (f_J2_add g24 m25 (some l) r23)).bind fun (v29, g30, m31) => some (.inr (g30, m31)) := by
      unfold bAll
      dsimp only
      rw [e_gi (ci := 3) kτ, Option.bind_some, if_pos (q1.mpr w), e_rc (ci := 3) kτ, en]
      rfl
    rw [am, pre]
    have cgn : cG τ g m g m1 := cG.tk fn
    rcases hf g m1 sn hS1 v1 (by rw [v3, a5]; exact hN) with ⟨C, st', p, g2, m2, r1, r2, r3, r4, r5, r6, r7, r8, r9⟩ | ⟨fl, pl, r, r1, r2, r3, r4⟩
    · left
      rw [v3, a5] at r5
      have hlen : it.length ≤ 299 := by have := a3.1; omega
      obtain ⟨g3, m3, F', e3, S3, C3, B3, t3, n3, L3, w1, w2⟩ := al_add hτ hta hB0 d1 d2 d3 (by rw [List.length_map, List.length_cons]; omega) d4 d5 d6 a2 cb.2.2.2 cb.1 (cgn.tr r4) r3 r5
      refine ⟨it ++ [(p, C)], F', g3, m3, st', ?_, ?_, by omega, ⟨S3, C3, r6, by omega, by omega, ?_, ?_⟩, ⟨?_, d2⟩, n3, L3, w1, w2⟩
      · rw [r1, allC_s]; rfl
      · rw [e_xe r2, e_xl (ci := 3) kτ]
        show ((zrc g2 17 (some l) (f_J2_add g2 m2 (some l) (some p))).bind _) = _
        rw [e3]; rfl
      · rw [List.length_append]; show ((it.length + 1 : Nat) : Int) < st'.p; omega
      · exact (a7.tr r9 (Int.le_refl _)).tr t3 (by omega)
      · have : (e0 :: (it ++ [(p, C)])).map (fun e : cAt => e.1) = (e0 :: it).map (fun e : cAt => e.1) ++ [p] := by
          rw [← List.cons_append, List.map_append]; rfl
        rw [this]; exact B3
    · right
      refine ⟨fl, pl, r, by rw [r1]; rfl, ?_, ?_, by omega⟩
      · rw [e_xe r2, e_xr (ci := 3) kτ r3.1]
      · exact cX.tr (a2.tr cgn) a7.1 a7.2 r3 (by omega) (by omega)
  · left
    constructor
    · unfold aMo
      dsimp only
      rw [if_neg (fun y => y.elim w w)]
    · unfold bAll
      dsimp only
      rw [e_gi (ci := 3) kτ, Option.bind_some, if_neg (fun y => w (q1.mp y))]
theorem al_loop (hb : ∀ i, 0 ≤ i → i < n → 0 ≤ tp i ∧ tp i ≤ 255) (n300 : n ≤ 300) (hf : tFn vA Df s1 e1 N τ ta n tp kd f1 h1) (hc : c.toInt = i1) (hi : i1 ≠ 301) (s10 : 0 ≤ s1) (se : e1 - s ≤ e + 50) {g0 : zGd} {m0 : zMm} {st0 : aSt} {l : Nat} {e0 : cAt} (hτ : τ < zZ g0) (hta : ta < zZ g0) (hB0 : zB g0 ≤ zZ g0) (hN : N st0.o) : ∀ (k Fu : Nat) (it : List cAt) (F : Nat → Prop) (g : zGd) (m : zMm) (st : aSt), (n - st.p).toNat ≤ k → k < Fu → tAl (Df st0.o) s τ ta n tp kd g0 m0 st0 l e0 it F g m st →
    (∃ it' F' g' m' st', zLoop (aMo (lx tp n) i1 i1 o o h1) Fu (allC o e0.2 it, st) = some (.inr (allC o e0.2 it', st')) ∧ zLoop (bAll f1 c (some τ) (some l)) Fu (g, m) = some (.inr (g', m')) ∧ tAl (Df st0.o) s τ ta n tp kd g0 m0 st0 l e0 it' F' g' m' st') ∨
    (∃ fl pl r, zLoop (aMo (lx tp n) i1 i1 o o h1) Fu (allC o e0.2 it, st) = some (.inl (fl, pl)) ∧ zLoop (bAll f1 c (some τ) (some l)) Fu (g, m) = some (.inl (.inr r)) ∧ cX τ g0 m0 (50 * (pl - st0.p) + e) (60 * (50 * (pl - st0.p) + e)) fl pl r ∧ st0.p ≤ pl) := by
  intro k
  induction k with
  | zero =>
    intro Fu it F g m st hk hF h
    obtain ⟨Fu, rfl⟩ : ∃ F', Fu = F' + 1 := ⟨Fu - 1, by omega⟩
    rcases al_step (o := o) hb n300 hf hc hi s10 se hτ hta hB0 hN h with ⟨u1, u2⟩ | ⟨it', F', g', m', st', u1, u2, u3, u4⟩ | ⟨fl, pl, r, u1, u2, u3, u4⟩
    · exact Or.inl ⟨it, F, g, m, st, zLoop_l u1, zLoop_l u2, h⟩
    · have := u4.1.2.2.1.1
      omega
    · exact Or.inr ⟨fl, pl, r, zLoop_l u1, zLoop_l u2, u3, u4⟩
  | succ k ih =>
    intro Fu it F g m st hk hF h
    obtain ⟨Fu, rfl⟩ : ∃ F', Fu = F' + 1 := ⟨Fu - 1, by omega⟩
    rcases al_step (o := o) hb n300 hf hc hi s10 se hτ hta hB0 hN h with ⟨u1, u2⟩ | ⟨it', F', g', m', st', u1, u2, u3, u4⟩ | ⟨fl, pl, r, u1, u2, u3, u4⟩
    · exact Or.inl ⟨it, F, g, m, st, zLoop_l u1, zLoop_l u2, h⟩
    · rw [zLoop_r u1, zLoop_r u2]
      exact ih Fu it' F' g' m' st' (by omega) (by omega) u4
    · exact Or.inr ⟨fl, pl, r, zLoop_l u1, zLoop_l u2, u3, u4⟩
end
