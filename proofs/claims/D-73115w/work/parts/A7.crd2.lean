/-! COMPONENT READING: a clause is read -/
set_option maxRecDepth 100000
section
variable {τ ta : Nat} {n kd nc : Int} {tp : Int → Int} {g0 g : zGd} {m0 m : zMm} {x la ld : Nat} {Cl : List aCl} {C : aC} {xs : List Nat} {F : Nat → Prop} {st : aSt}
/-- tokens go on -/
theorem rI_t (h : rI τ ta n tp g0 m0 x la ld kd nc Cl C xs F g m st) (hτ : τ < zZ g0) (hB0 : zB g0 ≤ zZ g0) {kd' : Int} {m1 : zMm} {s1 : aSt} (hS : cS τ ta n tp kd' g m1 s1) (f : tkF τ m m1) (v : aV n s1) (o : s1.o = 0) (p : st.p ≤ s1.p) : rI τ ta n tp g0 m0 x la ld kd' nc Cl C xs F g m1 s1 := by
  obtain ⟨⟨h1, h2, h3, h4, h5, h6, h7⟩, ⟨x1, x2, x3, x4, x5, x6⟩, ⟨l1, l2, l3⟩, ⟨b1, b2⟩, d1, ⟨f1, f2, f3, f4⟩, ⟨w0, w1⟩, dm, xf⟩ := h
  have b0 := cS_b h1
  have hb0 : zB g = zB g0 := h2.1.1
  have sm : tSm (fun q => q ≠ τ) m m1 := fun q hq => ⟨f.1 q hq, by rw [f.2.1], by rw [f.2.2]⟩
  have ag : agF F g m g m1 := ⟨rfl, rfl, fun q hq => by
    have hq : q ≠ τ := by
      rcases hq with y | y
      · have := (f4 q y).1; omega
      · omega
    exact ⟨rfl, (sm q hq).1, (sm q hq).2.2⟩⟩
  have R : zR m1 = zR m := f.2.2
  refine ⟨⟨hS, h2.tr (cG.tk f), v, o, ⟨by have := h5.1; omega, by have := h5.2; omega⟩, h6, h7⟩, ⟨x1, x2, x3, by rw [R]; exact x4, by rw [R]; exact x5, by rw [f.1 x (by omega)]; exact x6⟩, ⟨l1, l2, l3⟩, ⟨bl_s b1 tGr.rf (sm.wk fun q hq => ?_), b2⟩, by rw [R]; exact d1, ⟨f1, f2, f3, f4⟩, ⟨tLw_c w0 (fun _ y => y) ag (by rw [R]), tLw_c w1 (fun _ y => y) ag (by rw [R])⟩, dMt_c Cl 0 xs (fun q hq => ⟨rfl, (sm q (by have := (f4 q (xf q hq)).1; omega)).1⟩) dm, xf⟩
  rcases hq with y | y
  · omega
  · have := (d1 q y).1
    omega
/-- a clause's end -/
theorem rd_tail (hb : ∀ i, 0 ≤ i → i < n → 0 ≤ tp i ∧ tp i ≤ 255) (n300 : n ≤ 300) (h : rI τ ta n tp g0 m0 x la ld kd nc Cl C xs F g m st) (hτ : τ < zZ g0) (hta : ta < zZ g0) (hB0 : zB g0 ≤ zZ g0) (hnc : 0 ≤ nc ∧ nc ≤ 24) :
    (∃ m', aWt (lx tp n) 59 st = .inl (aNx (lx tp n) st) ∧ rdE (some τ) (some x) (g, m) = some (.inl (.inr (g, m'))) ∧ rI τ ta n tp g0 m0 x la ld kd (nc + 1) Cl C xs F g m' (aNx (lx tp n) st) ∧ st.p < (aNx (lx tp n) st).p) ∨
    ∃ r, aWt (lx tp n) 59 st = .inr (1, st.p) ∧ rdE (some τ) (some x) (g, m) = some (.inl (.inl (.inl (.inr r)))) ∧ cX τ g m 1 8 1 st.p r := by
  have hS := h.1.1
  have hv := h.1.2.2.1
  have ho := h.1.2.2.2.1
  have kτ := cS_k hS
  rcases c_want hb n300 hS hv (c := 59) (ci := 59) (by decide) with ⟨m1, y1, y2, y3, y4, y5⟩ | ⟨r, y1, y2, y3⟩
  · left
    obtain ⟨v1, v2, v3⟩ := vN (tp := tp) hv
    have hpa := hv.2.1 (by omega)
    have h1 := rI_t h hτ hB0 y5 y4 v1 (by omega) (by omega)
    obtain ⟨⟨h1, h2, h3, h4, h5, h6, h7⟩, ⟨x1, x2, x3, x4, x5, x6⟩, ⟨l1, l2, l3⟩, ⟨b1, b2⟩, d1, ⟨f1, f2, f3, f4⟩, ⟨w0, w1⟩, dm, xf⟩ := h1
    have hb0 : zB g = zB g0 := h2.1.1
    obtain ⟨M, eM⟩ : ∃ M, M = zsI m1 x 1 (zI m1 x 1 + 1) := ⟨_, rfl⟩
    have sM : tSm (fun q => q ≠ x) m1 M := fun q hq => by
      rw [eM, zsI_I, zsI_J, zsI_R, zup_r _ _ hq]; exact ⟨rfl, rfl, rfl⟩
    obtain ⟨wS, wG, wF⟩ := t_wri h1 h2 x2 hτ hta hB0 sM
    have R : zR M = zR m1 := by rw [eM, zsI_R]
    have ag := wF F f1
    have kne : ∀ q k, (zK g q).1 = k → k ≠ 5 → q ≠ x := fun q k hq hk e => by
      rw [e, x1] at hq; omega
    refine ⟨M, y1, ?_, ⟨⟨wS, wG, h3, h4, h5, h6, h7⟩, ⟨x1, x2, x3, by rw [R]; exact x4, by rw [R]; exact x5, ?_⟩, ⟨l1, l2, l3⟩, ⟨bl_s b1 tGr.rf (sM.wk fun q hq => ?_), b2⟩, by rw [R]; exact d1, ⟨f1, f2, f3, f4⟩, ⟨tLw_c w0 (fun _ y => y) ag (by rw [R]), tLw_c w1 (fun _ y => y) ag (by rw [R])⟩, dMt_c Cl 0 xs (fun q hq => ⟨rfl, (sM q (fun e => f1 (e ▸ xf q hq))).1⟩) dm, xf⟩, by omega⟩
    · unfold rdE
      show zXd g 3 (some τ) (f_X3_want g m (some τ) 59) _ _ = _
      rw [e_xe y3, e_xl (ci := 3) kτ]
      show ((zgi g m1 4 1 (some x)).bind _) = _
      rw [e_gi (ci := 4) x1, Option.bind_some, e_pi (ci := 4) x1 (by omega), Option.bind_some, ← eM]
    · rw [eM, zsI_I, zup_s, i_add x6 (show (1 : Int32).toInt = 1 by decide) (by omega) (by omega)]
    · rcases hq with y | y
      · exact kne q 18 (by rw [y]; exact b1.1) (by omega)
      · exact kne q 105 (bl_d b1 y).2 (by omega)
  · right
    refine ⟨r, y1, ?_, y3⟩
    unfold rdE
    show zXd g 3 (some τ) (f_X3_want g m (some τ) 59) _ _ = _
    rw [e_xe y2, e_xr (ci := 3) kτ y3.1]
/-- a law is read -/
theorem rd_sum (hb : ∀ i, 0 ≤ i → i < n → 0 ≤ tp i ∧ tp i ≤ 255) (n300 : n ≤ 300) (h : rI τ ta n tp g0 m0 x la ld kd nc Cl C xs F g m st) (hτ : τ < zZ g0) (hta : ta < zZ g0) (hB0 : zB g0 ≤ zZ g0) {w : Nat} (hw : w < 2) (hkd : kd = 200 + (w : Int)) (hno : aHas Cl (w : Int) = false) (hc24 : Cl.length < 24) :
    (∃ L s2 g2 m2 F', (aTk (lx tp n) kd 80).2.2.2.2.2.2 st = some (.inl (L, s2)) ∧ rdS (some τ) (some x) g m = some (.inr (g2, m2)) ∧ rI τ ta n tp g0 m0 x la ld kd nc (Cl ++ [((w : Int), (C.length : Int), ((C ++ L).length : Int))]) (C ++ L) xs F' g2 m2 s2 ∧ st.p < s2.p) ∨
    ∃ fl pl r, (aTk (lx tp n) kd 80).2.2.2.2.2.2 st = some (.inr (fl, pl)) ∧ rdS (some τ) (some x) g m = some (.inl (.inl (.inl (.inl (.inr r))))) ∧ cX τ g m (50 * (pl - st.p) + 20) (60 * (50 * (pl - st.p) + 20)) fl pl r ∧ st.p ≤ pl := by
  obtain ⟨⟨h1, h2, h3, h4, h5, h6, h7⟩, ⟨x1, x2, x3, x4, x5, x6⟩, ⟨l1, l2, l3⟩, ⟨b1, b2⟩, d1, ⟨f1, f2, f3, f4⟩, ⟨w0, w1⟩, dm, xf⟩ := h
  have b0 := cS_b h1
  have hb0 : zB g = zB g0 := h2.1.1
  have kτ := cS_k h1
  have v7 := h1.2.1.2.2.2.2.2
  rcases (t_all (τ := τ) (ta := ta) (kd := kd) hb n300 80).2.2.2.2.2.2 g m st h1 h3 (by show dO st.o + 4 ≤ 80; rw [h4]; decide) with ⟨L, s2, p, g2, m2, r1, r2, r3, r4, r5, r6, r7, r8, r9⟩ | ⟨fl, pl, r, r1, r2, r3, r4⟩
  · left
    have r2 : f_X3_sum g m (some τ) = some (.inl (some p, g2, m2)) := r2
    have Gr := r4.gr
    have hz2 := Gr.1.2.2.1
    have hb2 : zB g2 = zB g := Gr.1.1
    have k2la : zK g2 la = (107, 2) := by rw [Gr.2 la l3]; exact l1
    have k2x : (zK g2 x).1 = 4 + 1 := by rw [Gr.2 x x3]; exact x1
    obtain ⟨M, eM⟩ : ∃ M, M = zsR m2 la w (some p) := ⟨_, rfl⟩
    have sM : tSm (fun q => q ≠ la) m2 M := fun q hq => by
      rw [eM, zsR_I, zsR_J, zsR_R, zup_r _ _ hq]; exact ⟨rfl, rfl, rfl⟩
    obtain ⟨wS, wG, wF⟩ := t_wri r3 (h2.tr r4) l2 hτ hta hB0 sM
    have ast : zastr 6 g2 m2 (some la) (zI m τ 7 - (200 : Int32)) (some p) = some M := by
      obtain ⟨p1, q1⟩ := e_ix (n := 2) (i_sub v7 (show (200 : Int32).toInt = 200 by decide) (by omega) (by omega)) (by omega) (by omega)
      have hw' : (zI m τ 7 - (200 : Int32)).toNatClampNeg = w := by rw [q1]; omega
      rw [eM, ← hw']
      refine if_pos ⟨⟨⟨by rw [k2la], by omega⟩, by rw [k2la]; exact p1⟩, ?_⟩
      show zAsOk 6 (zK g2 p).1 = true
      rcases r5.1.2 with q | q | q | q | q | q | q <;> rw [q] <;> decide
    have sAll : tSm (fun q => q < zZ g ∧ q ≠ τ ∧ q ≠ la) m M := fun q hq => by
      have a := r4.sm q ⟨hq.1, hq.2.1⟩
      have b := sM q hq.2.2
      exact ⟨b.1.trans a.1, b.2.1.trans a.2.1, b.2.2.trans a.2.2⟩
    have kne : ∀ q k, (zK g q).1 = k → k ≠ 107 → q ≠ la := fun q k hq hk e => by
      rw [e, l1] at hq; exact hk hq.symm
    obtain ⟨F', eF'⟩ : ∃ F' : Nat → Prop, F' = fun k => F k ∨ (zZ g ≤ k ∧ k < zZ g2) := ⟨_, rfl⟩
    have hF1 : ∀ k, F k → F' k := fun k hk => by rw [eF']; exact Or.inl hk
    have hF2 : ∀ k, (zZ g ≤ k ∧ k < zZ g2) → F' k := fun k hk => by rw [eF']; exact Or.inr hk
    have nF' : ∀ k, ¬ F k → ¬ (zZ g ≤ k ∧ k < zZ g2) → ¬ F' k := fun k a b y => by
      rw [eF'] at y
      exact y.elim a b
    have F'z : ∀ k, F' k → zZ g0 ≤ k ∧ k < zZ g2 := fun k hk => by
      rw [eF'] at hk
      rcases hk with y | y
      · have := f4 k y; omega
      · have := h2.1.2.2.1; omega
    have ag : agF F g m g2 M := ⟨Gr.1.1, Gr.1.2.1, fun q hq => by
      have hh : q < zZ g ∧ q ≠ τ ∧ q ≠ la := by
        rcases hq with y | y
        · have := f4 q y
          exact ⟨by omega, by omega, fun e => f2 (e ▸ y)⟩
        · exact ⟨by omega, by omega, by omega⟩
      exact ⟨Gr.2 q hh.1, (sAll q hh).1, (sAll q hh).2.2⟩⟩
    have xa := sAll x ⟨x3, by omega, kne x 5 x1 (by omega)⟩
    have la2 : zR m2 la = zR m la := (r4.sm la ⟨l3, by omega⟩).2.2
    have ldR : zR M ld = zR m ld := (sAll ld ⟨b1.2.2.1, by omega, kne ld 18 b1.1 (by omega)⟩).2.2
    have vp : vS 59 F' g2 M p L := (r5.mono (by rw [h4]; decide) (fun _ y => y) (wF _ (fun y => by have := y.1; omega))).mono (Nat.le_refl _) hF2 ⟨rfl, rfl, fun _ _ => ⟨rfl, rfl, rfl⟩⟩
    have lw : ∀ w' : Nat, w' < 2 → tLw F g m la Cl C w' → tLw F' g2 M la (Cl ++ [((w : Int), (C.length : Int), ((C ++ L).length : Int))]) (C ++ L) w' := fun w' hw' hl => by
      by_cases e : w' = w
      · subst e
        exact tLw_n hno (by rw [eM, zsR_R, zup_s]) ((aTk_g (lx := lx tp n) (by omega) 80).2.2.2.2.2.2 st L s2 (by rw [← hkd]; exact r1)) vp
      · refine tLw_o (by show (w : Int) ≠ (w' : Int); omega) (tLw_c hl hF1 ag ?_)
        rw [eM, zsR_R, zup_k _ _ e, la2]
    refine ⟨L, s2, g2, M, F', r1, ?_, ⟨⟨wS, wG, r6, by omega, ?_, by rw [List.length_append]; omega, by rw [List.length_append, List.length_singleton]; omega⟩, ⟨k2x, x2, by omega, by rw [xa.2.2]; exact x4, by rw [xa.2.2]; exact x5, by rw [xa.1]; exact x6⟩, ⟨k2la, l2, by omega⟩, ⟨bl_s b1 Gr (sAll.wk fun q hq => ?_), b2⟩, ?_, ⟨nF' x f1 (by omega), nF' la f2 (by omega), nF' ld f3 (by have := b1.2.2.1; omega), F'z⟩, ⟨lw 0 (by omega) w0, lw 1 (by omega) w1⟩, ?_, fun q hq => hF1 q (xf q hq)⟩, r7⟩
    · unfold rdS
      rw [e_gr (ci := 4) x1, Option.bind_some, x4, e_gi (ci := 3) kτ, Option.bind_some, e_xe r2, e_xl (ci := 3) kτ]
      show ((zastr 6 g2 m2 (some la) (zI m τ 7 - (200 : Int32)) (some p)).bind _) = _
      rw [ast]; rfl
    · have q1 := h5.1
      have q2 := h5.2
      have q3 := r9.1
      have q4 := r9.2
      exact ⟨by omega, by omega⟩
    · rcases hq with y | y
      · subst y
        exact ⟨b1.2.2.1, by omega, kne q 18 b1.1 (by omega)⟩
      · have k := bl_d b1 y
        have := (d1 q y).1
        exact ⟨k.1, by omega, kne q 105 k.2 (by omega)⟩
    · intro d hd
      rw [ldR] at hd
      have k := bl_d b1 hd
      have k2 := d1 d hd
      exact ⟨by rw [hb2]; exact k2.1, nF' d k2.2 (by omega)⟩
    · refine dMt_l (by show (w : Int) < 2; omega) Cl 0 xs (dMt_c Cl 0 xs (fun q hq => ?_) dm)
      have k := f4 q (xf q hq)
      exact ⟨Gr.2 q k.2, (sAll q ⟨k.2, by omega, fun e => f2 (e ▸ xf q hq)⟩).1⟩
  · right
    have r2 : f_X3_sum g m (some τ) = some (.inr r) := r2
    refine ⟨fl, pl, r, r1, ?_, r3, r4⟩
    unfold rdS
    rw [e_gr (ci := 4) x1, Option.bind_some, x4, e_gi (ci := 3) kτ, Option.bind_some, e_xe r2, e_xr (ci := 3) kτ r3.1]
/-- a doing is read -/
theorem rd_do (hb : ∀ i, 0 ≤ i → i < n → 0 ≤ tp i ∧ tp i ≤ 255) (n300 : n ≤ 300) (h : rI τ ta n tp g0 m0 x la ld kd nc Cl C xs F g m st) (hτ : τ < zZ g0) (hta : ta < zZ g0) (hB0 : zB g0 ≤ zZ g0) (hkd : 202 ≤ kd ∧ kd ≤ 207) (hnc : nc = (Cl.length : Int)) (hc24 : Cl.length < 24) :
    (∃ a b s2 g2 m2 F' xs', aDo (lx tp n) kd st = .inl ((a, b), s2) ∧ rdA (some τ) (some x) g m = some (.inr (g2, m2)) ∧ rI τ ta n tp g0 m0 x la ld kd nc (Cl ++ [(kd - 200, a, b)]) C xs' F' g2 m2 s2 ∧ st.p < s2.p) ∨
    ∃ fl pl r, aDo (lx tp n) kd st = .inr (fl, pl) ∧ rdA (some τ) (some x) g m = some (.inl (.inl (.inl (.inl (.inr r))))) ∧ cX τ g m 2 120 fl pl r ∧ st.p ≤ pl ∧ pl ≤ n := by
  obtain ⟨⟨h1, h2, h3, h4, h5, h6, h7⟩, ⟨x1, x2, x3, x4, x5, x6⟩, ⟨l1, l2, l3⟩, ⟨b1, b2⟩, d1, ⟨f1, f2, f3, f4⟩, ⟨w0, w1⟩, dm, xf⟩ := h
  have b0 := cS_b h1
  have hb0 : zB g = zB g0 := h2.1.1
  have kτ := cS_k h1
  rcases t_doing hb n300 h1 h3 x6 with ⟨a, b, s2, q, g2, m2, e1, e2, e3, e4, e5, e6, e7, e8, e9, e10⟩ | ⟨fl, pl, r, e1, e2, e3, e4⟩
  · left
    have Gr := e4.gr
    have sm2 := e4.sm
    have hz2 := Gr.1.2.2.1
    have hb2 : zB g2 = zB g := Gr.1.1
    have lz := b1.2.2.1
    have B1 : bl g2 m2 ld xs := bl_s b1 Gr (sm2.wk fun k hk => by
      rcases hk with y | y
      · omega
      · have := (bl_d b1 y).1
        have := (d1 k y).1
        omega)
    have R1 : zR m2 ld = zR m ld := (sm2 ld ⟨lz, by omega⟩).2.2
    obtain ⟨g3, m3, e11, S3, B3, G3, s3, t3, n3⟩ := t_add e3 hτ hta (by omega) (by have := h2.1.2.2.1; omega) B1 b2 (fun d hd' => by rw [R1] at hd'; have := (d1 d hd').1; omega) (by omega) (x := q) (by unfold kOk; rw [e5.1]; omega) e6.2
    have hz3 := G3.1.2.2.1
    have hb3 : zB g3 = zB g2 := G3.1.1
    have GG := Gr.tr G3
    obtain ⟨F', eF'⟩ : ∃ F' : Nat → Prop, F' = fun k => F k ∨ (zZ g ≤ k ∧ k < zZ g2) := ⟨_, rfl⟩
    have hF1 : ∀ k, F k → F' k := fun k hk => by rw [eF']; exact Or.inl hk
    have hF2 : ∀ k, (zZ g ≤ k ∧ k < zZ g2) → F' k := fun k hk => by rw [eF']; exact Or.inr hk
    have nF' : ∀ k, ¬ F k → ¬ (zZ g ≤ k ∧ k < zZ g2) → ¬ F' k := fun k a b y => by
      rw [eF'] at y
      exact y.elim a b
    have F'z : ∀ k, F' k → zZ g0 ≤ k ∧ k < zZ g3 := fun k hk => by
      rw [eF'] at hk
      rcases hk with y | y
      · have := f4 k y; omega
      · have := h2.1.2.2.1; omega
    have sAll : tSm (fun k => k < zZ g ∧ k ≠ τ ∧ k ≠ ld ∧ ∀ d, zR m ld 1 = some d → k ≠ d) m m3 := fun k hk => by
      have a := sm2 k ⟨hk.1, hk.2.1⟩
      have b := s3 k ⟨by omega, hk.2.2.1, fun d hd _ => hk.2.2.2 d (by rw [← R1]; exact hd)⟩
      exact ⟨b.1.trans a.1, b.2.1.trans a.2.1, b.2.2.trans a.2.2⟩
    have ag : agF F g m g3 m3 := ⟨GG.1.1, GG.1.2.1, fun k hk => by
      have hh : k < zZ g := by
        rcases hk with y | y
        · exact (f4 k y).2
        · omega
      rcases hk with y | y
      · have := f4 k y
        have s := sAll k ⟨hh, by omega, fun e => f3 (e ▸ y), fun d hd e => (d1 d hd).2 (e ▸ y)⟩
        exact ⟨GG.2 k hh, s.1, s.2.2⟩
      · have s2' := sm2 k ⟨hh, by omega⟩
        have s3' := s3 k ⟨by omega, by omega, fun d hd hb' => by omega⟩
        exact ⟨GG.2 k hh, s3'.1.trans s2'.1, s3'.2.2.trans s2'.2.2⟩⟩
    have kdif : ∀ k i, (zK g k).1 = i → k < zZ g → k ≠ τ → i ≠ 18 → i ≠ 105 → zI m3 k = zI m k ∧ zJ m3 k = zJ m k ∧ zR m3 k = zR m k := fun k i hk hz hn h18 h105 => sAll k ⟨hz, hn, fun e => by rw [e, b1.1] at hk; omega, fun d hd e => by rw [e, (bl_d b1 hd).2] at hk; omega⟩
    have xa := kdif x 5 x1 x3 (by omega) (by omega) (by omega)
    have laa := kdif la 107 (by rw [l1]) l3 (by omega) (by omega) (by omega)
    have cG3 : cG τ g0 m0 g3 m3 := (h2.tr e4).st G3 (s3.wk fun k hk => ⟨by omega, by omega, fun d hd hb' => by
      rw [R1] at hd
      have := (d1 d hd).1
      omega⟩) hτ
    have q3 : tDo g3 m3 q kd a b nc := by
      have s := s3 q ⟨e6.2, by omega, fun d hd _ => by
        rw [R1] at hd
        have := (bl_d b1 hd).1
        omega⟩
      unfold tDo at e5 ⊢
      rw [G3.2 q e6.2, s.1]; exact e5
    refine ⟨a, b, s2, g3, m3, F', xs ++ [q], e1, ?_, ⟨⟨S3, cG3, e7, by omega, ?_, by rw [List.length_append, List.length_append, List.length_singleton, List.length_singleton]; omega, by rw [List.length_append, List.length_singleton]; omega⟩, ⟨by rw [GG.2 x x3]; exact x1, x2, by omega, by rw [xa.2.2]; exact x4, by rw [xa.2.2]; exact x5, by rw [xa.1]; exact x6⟩, ⟨by rw [GG.2 la l3]; exact l1, l2, by omega⟩, ⟨B3, b2⟩, ?_, ⟨nF' x f1 (by omega), nF' la f2 (by omega), nF' ld f3 (by omega), F'z⟩, ⟨?_, ?_⟩, ?_, fun k hk => ?_⟩, e8⟩
    · unfold rdA
      rw [e_gr (ci := 4) x1, Option.bind_some, x5, e_gi (ci := 4) x1, Option.bind_some, e_xe e2, e_xl (ci := 3) kτ]
      show ((zrc g2 17 (some ld) (f_J2_add g2 m2 (some ld) (some q))).bind _) = _
      rw [e11]; rfl
    · have q1 := h5.1
      have q2 := h5.2
      have q5 := e10.1
      have q6 := e10.2
      have q7 := t3.1
      have q8 := t3.2
      exact ⟨by omega, by omega⟩
    · intro d hd
      rcases n3 d hd with y | y
      · rw [R1] at y
        have k := bl_d b1 y
        have k2 := d1 d y
        exact ⟨by rw [hb3, hb2]; exact k2.1, nF' d k2.2 (by omega)⟩
      · have := h2.1.2.2.1
        exact ⟨Or.inr (by omega), nF' d (fun z => by have := f4 d z; omega) (by omega)⟩
    · have := tLw_o (C' := []) (c := (kd - 200, a, b)) (by show kd - 200 ≠ ((0 : Nat) : Int); omega) (tLw_c w0 hF1 ag (by rw [laa.2.2]))
      rw [List.append_nil] at this
      exact this
    · have := tLw_o (C' := []) (c := (kd - 200, a, b)) (by show kd - 200 ≠ ((1 : Nat) : Int); omega) (tLw_c w1 hF1 ag (by rw [laa.2.2]))
      rw [List.append_nil] at this
      exact this
    · refine dMt_d (by show ¬ kd - 200 < 2; omega) (by show kd - 200 ≤ 7; omega) Cl 0 xs (dMt_c Cl 0 xs (fun k hk => ?_) dm) ?_
      · have hz := f4 k (xf k hk)
        exact ⟨GG.2 k hz.2, (sAll k ⟨hz.2, by omega, fun e => f3 (e ▸ xf k hk), fun d hd e => (d1 d hd).2 (e ▸ xf k hk)⟩).1⟩
      · show tDo g3 m3 q (200 + (kd - 200)) a b ((0 + Cl.length : Nat) : Int)
        rw [Nat.zero_add, ← hnc, show 200 + (kd - 200) = kd by omega]; exact q3
    · rcases List.mem_append.mp hk with y | y
      · exact hF1 k (xf k y)
      · rw [List.mem_singleton.mp y]
        exact hF2 q ⟨e6.1, e6.2⟩
  · right
    refine ⟨fl, pl, r, e1, ?_, e3, e4⟩
    unfold rdA
    rw [e_gr (ci := 4) x1, Option.bind_some, x5, e_gi (ci := 4) x1, Option.bind_some, e_xe e2, e_xr (ci := 3) kτ e3.1]
end
