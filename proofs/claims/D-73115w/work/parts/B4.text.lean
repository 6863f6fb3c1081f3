/-! JOIN: a text is read by both -/
set_option maxRecDepth 100000
theorem qTx_c {U U' : zP} {tx : Int} {Cl : List aCl} {C : aC} (h : qTx U tx Cl C) (e : ∀ j, tx ≤ j → j < tx + 681 → U' 3 j = U 3 j) : qTx U' tx Cl C := by
  obtain ⟨h1, h2, h3, h4, h5⟩ := h
  refine ⟨by rw [e tx (by omega) (by omega)]; exact h1, h2, h3, fun i c hi => ?_, fun i z hi => ?_⟩
  · have hl : i < Cl.length := by
      rcases Nat.lt_or_ge i Cl.length with y | y
      · exact y
      · rw [List.getElem?_eq_none y] at hi; cases hi
    rw [e _ (by omega) (by omega), e _ (by omega) (by omega), e _ (by omega) (by omega)]
    exact h4 i c hi
  · have hl : i < C.length := by
      rcases Nat.lt_or_ge i C.length with y | y
      · exact y
      · rw [List.getElem?_eq_none y] at hi; cases hi
    rw [e _ (by omega) (by omega), e _ (by omega) (by omega)]
    exact h5 i z hi
theorem pSt_t {N R T H M Y N' A A' : Int → Int} {sp gu sa to st : Int → Int → Int} (h : pSt N R T H M Y sp gu sa to st A) (e : ∀ i, i ≠ 1 → A' i = A i) (fN : ∀ i, i ≠ 1 → N' i = N i) (h1 : N' 1 = A' 1) (h0 : A 1 ≤ A' 1) (h4 : A' 1 ≤ 4) : pSt N' R T H M Y sp gu sa to st A' := by
  obtain ⟨g1, g2, g3, g4, g5, g6, g7, g8, g9, g10, g11, g12⟩ := h
  have e0 := e 0 (by omega)
  have k0 := g1.1.2.2
  have k4 := g1.2.2.2.2.1.2.2
  have k5 := g1.2.2.2.2.2.1.2.2
  have k6 := g1.2.2.2.2.2.2.2.2
  have k3 := g1.2.2.2.1.2.2
  have nf : ∀ {r : Int → Int} {a c : Int}, ∀ i, a ≤ i → i < c → r i = r i := fun _ _ _ => rfl
  unfold pSt
  rw [e0]
  refine ⟨?_, pCur_c k0 g2 (fun i a c => e i (by omega)) (fun _ _ _ => rfl), pBk_c g2.2.2.1.2 g3 (e 9 (by omega)) (fun i a c => e i (by omega)) (fun _ _ _ => rfl), pTem_c k0 g4 e0 (fun i a c => e i (by omega)) (fun _ _ _ => rfl), pBeg_c k0 g5 e0 (fun i a c => e i (by omega)), pSpi_c g6 (fun i a c => e i (by omega)) (fun _ _ _ _ _ _ => rfl), pHed_c g7 (fun i a c => e i (by omega)) (fun _ _ _ => rfl), pGue_c k4 g8 (e 4 (by omega)) (fun i a c => e i (by omega)) (fun _ _ _ _ _ _ => rfl), pGai_c g9 (fun i a c => e i (by omega)) (fun _ _ _ => rfl) (fun _ _ _ => rfl), pSay_c k5 g10 (e 5 (by omega)) (fun i a c => e i (by omega)) (fun _ _ _ _ _ _ => rfl), pTol_c k6 g11 (e 6 (by omega)) (by rw [e0]; exact Int.le_refl _) (fun i a c => e i (by omega)) (fun _ _ _ _ _ _ => rfl), pSts_c k0 k3 g12 e0 (e 3 (by omega)) (fun i a c => e i (by omega)) (fun i a c => e i (by omega)) (fun _ _ _ _ _ _ => rfl)⟩
  unfold pHd at g1 ⊢
  rw [e 0 (by omega), e 2 (by omega), e 3 (by omega), e 4 (by omega), e 5 (by omega), e 6 (by omega), fN 0 (by omega), fN 2 (by omega), fN 3 (by omega), fN 4 (by omega), fN 5 (by omega), fN 6 (by omega), h1]
  omega
section
variable {D : iD} {b : Nat} {g : zGd} {m : zMm}
theorem oT_I {m1 m2 : zMm} (h : pOk (bT (b + 151)) m1 m2) {a : Nat} (ha : a < b + 151 ∨ b + 167 ≤ a) : zI m2 a = zI m1 a ∧ zJ m2 a = zJ m1 a := pOk_I h (fun k => by
  by_cases y : a < b + 151
  · exact Or.inl y
  · refine Or.inr (fun z => ?_)
    have z : a - (b + 151) < 16 := z
    omega)
theorem c_text (h : iV D b g m) : ∃ D' u g1 m1 m2, f_X0_text g m (some b) = some (u, g1, m1) ∧ f_X2_text g1 m1 (some (b + 151)) = some (u, m2) ∧ iV D' b g1 m2 ∧ (zB g1 = zB g ∧ (zK g1 b).1 = 0 + 1 ∧ (zK g1 (b + 151)).1 = 2 + 1) ∧ (zZ g1 : Int) + 50 * iM b m2 0 4 ≤ zZ g + 50 * iM b m 0 4 + 70 ∧ (zL g1 : Int) + 3000 * iM b m2 0 4 ≤ zL g + 3000 * iM b m 0 4 + 4200 := by
  have hr := iV_rel h
  have hL := iV_lc h
  have hM := iV_lm h
  have hbz := lc_b hL
  have kb : (zK g b).1 = 0 + 1 := lc_o hL
  have kM : (zK g (b + 151)).1 = 2 + 1 := lm_o hM
  have k1 : (zK g (b + 1)).1 = 1 + 1 := ls_o (lc_s1 hL)
  have k2 : zK g (b + 2) = (101, 7) := ls_k1 (lc_s1 hL)
  have r0 : zR m b 0 = some (b + 1) := lc_f0 hL
  have r10 : zR m (b + 1) 0 = some (b + 2) := ls_f0 (lc_s1 hL)
  have hz := h.1.2.2.1
  have n1 := hr.1.1.2.1
  have c1 : (1 : Int32).toInt = 1 := by decide
  obtain ⟨p1, p2, p3, p4, p5⟩ := hr.2.2.1
  have eT : (zI m (b + 2) 1).toInt = iM b m 1 1 := by
    rw [← n1.1]
    exact (iC_e (b := b) (m := m) (c := 2) (i := 1) (by omega)).symm
  by_cases hT : iM b m 1 1 = 4
  · -- no more texts
    have q4 := i_eq eT (show (4 : Int32).toInt = 4 by decide)
    have eM : (zI m (b + 151 + 1) 1).toInt = iM b m 1 1 := (pI_i (B := bM (b + 151)) (m := m) (c := 1) (i := 1) (by omega) rfl).symm
    have q5 := i_eq eM (show (4 : Int32).toInt = 4 by decide)
    refine ⟨D, -1, g, m, m, ?_, ?_, h, ⟨rfl, kb, kM⟩, by omega, by omega⟩
    · unfold f_X0_text
      rw [e_gr (ci := 0) kb, Option.bind_some, r0, e_gr (ci := 1) k1, Option.bind_some, r10, e_ald (x := 1) k2 c1 (by omega) (by omega), Option.bind_some, if_pos (show zI m (b + 2) (Int.toNat 1) = 4 from q4.mpr hT)]
    · unfold f_X2_text
      rw [e_gr (ci := 2) kM, Option.bind_some, show zR m (b + 151) 0 = some (b + 151 + 1) from lm_f0 hM, e_ald (x := 1) (lm_k1 hM) c1 (by omega) (by omega), Option.bind_some, if_pos (show zI m (b + 151 + 1) (Int.toNat 1) = 4 from q5.mpr hT)]
  · obtain ⟨t, et⟩ : ∃ t, t = iM b m 1 1 := ⟨_, rfl⟩
    obtain ⟨n, en⟩ : ∃ n, n = iM b m 0 4 := ⟨_, rfl⟩
    obtain ⟨tp, etp⟩ : ∃ tp, tp = iM b m 4 := ⟨_, rfl⟩
    rw [← et] at eT hT n1
    rw [← en] at p1 p5
    rw [← etp] at p5
    have en3 : (zI m b 3).toInt = n := by
      rw [← p1.1]
      exact (iC_e (b := b) (m := m) (c := 0) (i := 3) (by omega)).symm
    obtain ⟨y, g', m', hy, ⟨F1, F2, F3, F4, F5, F6⟩, ⟨z1, z2⟩, res⟩ := t_text h.1.2.2.2 hbz (by omega) kb k1 k2 (ls_k70 (lc_s1 hL)) (lc_k143 hL) r0 (lc_f2 hL) r10 (ls_f11 (lc_s1 hL)) eT (t := t) (by omega) (by omega) en3 (by omega) p1.2.2 (tp := tp) (fun i a c => ⟨(p5 i a c).1, (p5 i a c).2.1⟩) (fun i a c => by
      have k := (p5 i a c).2.2
      rw [iC_e a] at k
      exact k)
    have old : ∀ q, q < zZ g → q ≠ b → q ≠ b + 2 → q ≠ b + 71 → zI m' q = zI m q ∧ zJ m' q = zJ m q ∧ zR m' q = zR m q := fun q a c d e => F2 q ⟨a, c, d, e⟩
    have eS : ∀ c, c < 16 → iM b m' c = iM b m c := fun c hc => by
      have k := old (b + 151 + c) (by omega) (by omega) (by omega) (by omega)
      exact iM_eq k.1 k.2.1
    have rM : zR m' (b + 151 + 0) = zR m (b + 151 + 0) := (old (b + 151) (by omega) (by omega) (by omega) (by omega)).2.2
    have LM1 : pLM g' (zR m') (b + 151) := pLM_c hM F1.1.1 (fun q a c => F1.2 q (by omega)) rM
    have hB' : zB g' = zB g := F1.1.1
    have hz' := F1.1.2.2.1
    have Rall : ∀ q, q < b + 151 → q ≠ b + 71 → zR m' q = zR m q := fun q a c => by
      by_cases y1 : q = b
      · rw [y1]; exact F3.1
      · by_cases y2 : q = b + 2
        · rw [y2]; exact F4.1
        · exact (old q (by omega) y1 y2 c).2.2
    have S143 : ∀ c, c < 151 → c ≠ 0 → c ≠ 2 → iC b m' c = iC b m c := fun c hc h0 h2 => by
      by_cases y : c = 71
      · rw [y]; exact iC_eq F5.1
      · exact iC_eq (old (b + c) (by omega) (by omega) (by omega) (by omega)).1
    have S03 : iC b m' 0 3 = 0 := by
      rw [iC_e (by omega)]
      show (zI m' b 3).toInt = 0
      rw [F6]; decide
    have kt := k_text (S := iM b m') (nn := n) (t := t) (by omega) p1.2.2 (by rw [eS 0 (by omega)]; exact en.symm) (fun i a c => by rw [eS 4 (by omega), ← etp]; exact ⟨(p5 i a c).1, (p5 i a c).2.1⟩) (by rw [eS 1 (by omega)]; exact et.symm) (by omega) (by omega) (y := y) (by rw [eS 4 (by omega), ← etp]; exact hy)
    -- the invariant, out of what both give
    have fin : ∀ (D' : iD) (u : Int32) (U : zP) (t' : Int), p_X2_text (iM b m') = some (u.toInt, U) → U 0 4 = 0 → (∀ c, c ≠ 0 → c ≠ 1 → c ≠ 3 → c ≠ 5 → U c = iM b m' c) → (∀ i, i < 4 ∨ 19 < i → U 0 i = iM b m' 0 i) → (∀ j, j < 681 * t ∨ 681 * t + 681 ≤ j → U 3 j = iM b m' 3 j) → U 1 1 = t' → (∀ i, i ≠ 1 → U 1 i = iM b m' 1 i) → (t ≤ t' ∧ t' ≤ 4) → U 0 5 = iC b m' 0 4 → U 0 6 = iC b m' 0 5 → iC b m' 2 1 = t' → (∀ i, i ≠ 1 → iC b m' 2 i = iC b m 2 i) → (∀ x z, D x = some z → ∃ z', D' x = some z') → (∀ x, x < zZ g → D' x = D x) → (∀ x Cl C, D' x = some (Cl, C) → D x = some (Cl, C) ∨ txL (fun q => zZ g ≤ q ∧ q < zZ g') g' m' x Cl C) → (∀ k : Nat, k < 4 → zR m' (b + 71) k = zR m (b + 71) k ∨ ∃ x z, zR m' (b + 71) k = some x ∧ D' x = some z) → (∀ k : Nat, (k : Int) < t → zR m' (b + 71) k = zR m (b + 71) k) → (t < t' → ∃ x Cl C, zR m' (b + 71) t.toNat = some x ∧ D' x = some (Cl, C) ∧ txD (fun q => zZ g ≤ q ∧ q < zZ g') g' m' x Cl ∧ qTx U (681 * t) Cl C) → t' ≤ t + 1 →
        ∃ m2, f_X2_text g' m' (some (b + 151)) = some (u, m2) ∧ iV D' b g' m2 ∧ iM b m2 0 4 = 0 := by
      intro D' u U t' e1 u4 uc u0 u3 u11 u1i htt u5 u6 c21 c2i hD1 hD2 hD3 hk1 hk2 hnew ht1
      obtain ⟨⟨u', m2⟩, f2, a1, a2, a3⟩ := rf_X2_text (M := b + 151) LM1 (pOk.rf (m := m')) _ e1
      have a1 : u.toInt = u'.toInt := a1
      have hS : U = iM b m2 := a2
      have hu : u' = u := Int32.toInt_inj.mp a1.symm
      subst hu
      have R2 : zR m2 = zR m' := a3.2
      have I2 : ∀ a, (a < b + 151 ∨ b + 167 ≤ a) → zI m2 a = zI m' a ∧ zJ m2 a = zJ m' a := fun a ha => oT_I a3 ha
      have eC : ∀ c, c < 151 → iC b m2 c = iC b m' c := fun c hc => iC_eq (I2 _ (by omega)).1
      obtain ⟨⟨b1, b2, b3, b4⟩, ⟨x0, b5, b6⟩, d1, t1, ⟨i1, i2, i3⟩, gm, r1⟩ := h
      have fF : ∀ q, iF b g q → iF b g' q := fun q hq => by
        rcases hq with y | y
        · exact Or.inl ⟨y.1, by omega⟩
        · exact Or.inr (by rw [hB']; exact y)
      have ag : agF (iF b g) g m g' m2 := ⟨hB', F1.1.2.1, fun q hq => by
        have hq : (q < b ∨ b + 167 ≤ q) ∧ q < zZ g := by
          rcases hq with (y | y) | y <;> omega
        have k := old q hq.2 (by omega) (by omega) (by omega)
        exact ⟨F1.2 q hq.2, (I2 q (by omega)).1.trans k.1, by rw [R2]; exact k.2.2⟩⟩
      have ag2 : agF (fun q => zZ g ≤ q ∧ q < zZ g') g' m' g' m2 := ⟨rfl, rfl, fun q hq => ⟨rfl, (I2 q (by omega)).1, by rw [R2]⟩⟩
      have fN : ∀ q, (zZ g ≤ q ∧ q < zZ g') → iF b g' q := fun q hq => Or.inl ⟨by omega, hq.2⟩
      have D1 : ∀ x Cl C, D' x = some (Cl, C) → txL (iF b g') g' m2 x Cl C := fun x Cl C hx => by
        rcases hD3 x Cl C hx with y | y
        · exact txL_c (d1 x Cl C y) fF ag
        · exact txL_c y fN ag2
      have x0z : x0 < zZ g := by
        have := (d1 x0 [] [] b6).1.1
        rcases this with y | y <;> omega
      have T1 : ∀ k : Int, 0 ≤ k → k < iM b m2 1 1 → ∃ x Cl C, zR m2 (b + 71) k.toNat = some x ∧ D' x = some (Cl, C) ∧ txD (iF b g') g' m2 x Cl ∧ qTx (iM b m2) (681 * k) Cl C := fun k k0 k1 => by
        rw [← hS, u11] at k1
        by_cases hk : k < t
        · obtain ⟨x, Cl, C, h1, h2, h3, h4⟩ := t1 k k0 (by rw [← et]; exact hk)
          have xz : x < zZ g := by
            rcases h3.1.1 with y | y <;> omega
          refine ⟨x, Cl, C, by rw [R2, hk2 k.toNat (by omega)]; exact h1, by rw [hD2 x xz]; exact h2, txD_c h3 fF ag, qTx_c h4 (fun j j0 j1 => ?_)⟩
          rw [← hS, u3 j (by omega), eS 3 (by omega)]
        · have hk : k = t := by omega
          subst hk
          obtain ⟨x, Cl, C, h1, h2, h3, h4⟩ := hnew (by omega)
          exact ⟨x, Cl, C, by rw [R2]; exact h1, h2, txD_c h3 fN ag2, by rw [← hS]; exact h4⟩
      have X0 : ∃ x0, zS g' 0 = some x0 ∧ D' x0 = some ([], []) := ⟨x0, by rw [F1.1.2.1]; exact b5, by rw [hD2 x0 x0z]; exact b6⟩
      have eM : ∀ c, c < 16 → c ≠ 0 → c ≠ 1 → c ≠ 3 → c ≠ 5 → iM b m2 c = iM b m c := fun c hc x0 x1 x2 x3 => by rw [← hS, uc c x0 x1 x2 x3, eS c hc]
      have R142 : ∀ k, zR m2 (b + 142) k = zR m (b + 142) k := fun k => by rw [R2, (old (b + 142) (by omega) (by omega) (by omega) (by omega)).2.2]
      refine ⟨m2, f2, ⟨⟨?_, ?_, by omega, ?_⟩, X0, D1, T1, ⟨?_, fun k k0 k1 => ?_, fun k x hk hx => ?_⟩, ?_, ?_, ?_, ?_, ?_⟩, by rw [← hS]; exact u4⟩
      · exact pLC_c b1 hB' (fun q hq => F1.2 q (by omega)) (fun q hq h1 h2 => by rw [R2]; exact Rall q hq h1)
      · rw [R2]; exact LM1
      · exact cW_c ⟨hB', F1.1.2.1, fun q hq => by
          have k := old q (by omega) (by omega) (by omega) (by omega)
          exact ⟨F1.2 q (by omega), (I2 q (by omega)).1.trans k.1, by rw [R2]; exact k.2.2⟩⟩ b4
      · rw [eM 2 (by omega) (by omega) (by omega) (by omega) (by omega), ← hS, u11]; omega
      · rw [eM 2 (by omega) (by omega) (by omega) (by omega) (by omega)] at k1
        rw [R142, i2 k k0 k1, R2, hk2 k.toNat (by omega)]
      · rcases hx with y | y
        · rw [R2] at y
          rcases hk1 k hk with k1 | ⟨x', z', k1, k2⟩
          · rw [k1] at y
            obtain ⟨z, hz⟩ := i3 k x hk (Or.inl y)
            exact hD1 x z hz
          · rw [k1] at y
            cases y
            exact ⟨z', k2⟩
        · rw [R142] at y
          obtain ⟨z, hz⟩ := i3 k x hk (Or.inr y)
          exact hD1 x z hz
      · unfold gMem at gm ⊢
        rw [eC 150 (by omega), S143 150 (by omega) (by omega) (by omega)]; exact gm
      · -- what is now
        have e2 : ∀ c, 2 < c → c < 151 → iC b m2 c = iC b m c := fun c x y => by rw [eC c y, S143 c y (by omega) (by omega)]
        have k := pSt_t (N' := iC b m2 2) (A' := iM b m2 1) r1.1 (fun i hi => by rw [← hS, u1i i hi, eS 1 (by omega)]) (fun i hi => by rw [eC 2 (by omega)]; exact c2i i hi) (by rw [eC 2 (by omega), ← hS, u11]; exact c21) (by rw [← et, ← hS, u11]; exact htt.1) (by rw [← hS, u11]; exact htt.2)
        show pSt (iC b m2 2) (iC b m2 3) (iC b m2 4) (iC b m2 5) (iC b m2 6) (iC b m2 7) (fun k => iC b m2 (9 + k.toNat)) (fun k => iC b m2 (16 + k.toNat)) (fun k => iC b m2 (23 + k.toNat)) (fun k => iC b m2 (32 + k.toNat)) (fun k => iC b m2 (41 + k.toNat)) (iM b m2 1)
        rw [e2 3 (by omega) (by omega), e2 4 (by omega) (by omega), e2 5 (by omega) (by omega), e2 6 (by omega) (by omega), e2 7 (by omega) (by omega)]
        exact pSt_c k (fun _ _ _ => rfl) (fun _ _ _ => rfl) (fun _ _ _ => rfl) (fun _ _ _ => rfl) (fun _ _ _ => rfl) (fun _ _ _ => rfl) (fun _ _ _ => rfl) (fun a i a0 a1 _ _ => by show iC b m2 _ i = iC b m _ i; rw [e2 _ (by omega) (by omega)]) (fun a i a0 a1 _ _ => by show iC b m2 _ i = iC b m _ i; rw [e2 _ (by omega) (by omega)]) (fun a i a0 a1 _ _ => by show iC b m2 _ i = iC b m _ i; rw [e2 _ (by omega) (by omega)]) (fun a i a0 a1 _ _ => by show iC b m2 _ i = iC b m _ i; rw [e2 _ (by omega) (by omega)]) (fun a i a0 a1 _ _ => by show iC b m2 _ i = iC b m _ i; rw [e2 _ (by omega) (by omega)])
      · exact pImg_e r1.2.1 (fun c x y => by rw [eC c (by omega), S143 c (by omega) (by omega) (by omega)]) (eM 2 (by omega) (by omega) (by omega) (by omega) (by omega))
      · refine ⟨⟨?_, ?_, ?_⟩, ?_, ?_, ?_, fun i j0 j1 => ?_⟩
        · rw [eC 0 (by omega), S03, ← hS, u4]
        · rw [← hS, u4]; exact Int.le_refl _
        · rw [← hS, u4]; decide
        · rw [eC 0 (by omega), ← hS, u5]
        · rw [eC 0 (by omega), ← hS, u6]
        · rw [← hS, u0 23 (by omega), eS 0 (by omega)]; exact p4
        · rw [← hS, u4] at j1
          exfalso; omega
      · exact iV_tx X0 D1 (fun k k0 k1 => by
          obtain ⟨x, Cl, C, h1, h2, h3, h4⟩ := T1 k k0 k1
          exact ⟨x, Cl, C, h1, h2, h4⟩)
    have kb' : (zK g' b).1 = 0 + 1 := by rw [F1.2 b (by omega)]; exact kb
    have kM' : (zK g' (b + 151)).1 = 2 + 1 := by rw [F1.2 (b + 151) (by omega)]; exact kM
    have m1 : (-1 : Int32).toInt = -1 := by decide
    rcases res with ⟨fl, pl, y1, y2, y3, y4, y5, y6⟩ | ⟨Cl, C, s', v, x, y1, y2, y3, y4, y5, ⟨y6, y7⟩, ⟨y8, y9⟩, y10⟩
    · -- a fault
      rcases kt with ⟨f, p, U, k1', k2', k3', k4', k5', k6', k7', k8'⟩ | ⟨Cl, C, s', U, k1', -⟩
      · rw [y1] at k1'
        cases k1'
        obtain ⟨m2, f2, iv, tz⟩ := fin D (-1) U t (by rw [m1]; exact k2') k5' (fun c a _ d e => k6' c a d e) k7' k8' (by rw [k6' 1 (by omega) (by omega) (by omega), eS 1 (by omega)]; exact et.symm) (fun i _ => by rw [k6' 1 (by omega) (by omega) (by omega)]) (by omega) (by rw [k3', iC_e (by omega)]; exact y3.symm) (by rw [k4', iC_e (by omega)]; exact y4.symm) (by rw [iC_eq (b := b) (c := 2) y5]; exact n1.1) (fun i _ => by rw [iC_eq (b := b) (c := 2) y5]) (fun x z hx => ⟨z, hx⟩) (fun _ _ => rfl) (fun _ _ _ hx => Or.inl hx) (fun k _ => Or.inl (by rw [y6])) (fun k _ => by rw [y6]) (fun k => by exfalso; omega) (by omega)
        exact ⟨D, -1, g', m', m2, y2, f2, iv, ⟨hB', kb', kM'⟩, by rw [tz]; omega, by rw [tz]; omega⟩
      · rw [y1] at k1'; cases k1'
    · rcases kt with ⟨f, p, U, k1', -⟩ | ⟨Cl', C', s'', U, k1', k2', k3', k4', k5', k6', k7', k8', k9', k10', k11'⟩
      · rw [y1] at k1'; cases k1'
      · rw [y1] at k1'
        cases k1'
        obtain ⟨tl, td⟩ := txT_l y10
        have xz : zZ g ≤ x := tl.1.1.1
        obtain ⟨D', eD⟩ : ∃ D' : iD, D' = fun q => if q = x then some (Cl, C) else D q := ⟨_, rfl⟩
        have Dx : D' x = some (Cl, C) := by rw [eD]; exact if_pos rfl
        have Dn : ∀ q, q ≠ x → D' q = D q := fun q hq => by rw [eD]; exact if_neg hq
        have c21 : iC b m' 2 1 = t + 1 := by rw [iC_e (by omega)]; exact y6
        obtain ⟨m2, f2, iv, tz⟩ := fin D' v U (t + 1) (by rw [y3]; exact k2') k5' k6' k7' k8' k9' k10' (by omega) (by rw [k3', iC_e (by omega)]; exact y4.symm) (by rw [k4', iC_e (by omega)]; exact y5.symm) c21 (fun i hi => by
          by_cases i0 : 0 ≤ i
          · rw [iC_e i0, iC_e i0]
            show (zI m' (b + 2) i.toNat).toInt = (zI m (b + 2) i.toNat).toInt
            rw [y7 i.toNat (by omega)]
          · show pI (bC b) m' 2 i = pI (bC b) m 2 i
            unfold pI
            rw [if_pos (by omega), if_pos (by omega)]) (fun q z hq => by
          by_cases y : q = x
          · rw [y]; exact ⟨_, Dx⟩
          · exact ⟨z, by rw [Dn q y]; exact hq⟩) (fun q hq => Dn q (by omega)) (fun q Cl' C' hq => by
          by_cases y : q = x
          · rw [y, Dx] at hq
            cases hq
            rw [y]
            exact Or.inr tl
          · rw [Dn q y] at hq
            exact Or.inl hq) (fun k hk => by
          by_cases y : k = t.toNat
          · rw [y]
            exact Or.inr ⟨x, _, y8, Dx⟩
          · exact Or.inl (y9 k y)) (fun k hk => y9 k (by omega)) (fun _ => ⟨x, Cl, C, y8, Dx, td, k11'⟩) (Int.le_refl _)
        exact ⟨D', v, g', m', m2, y2, f2, iv, ⟨hB', kb', kM'⟩, by rw [tz]; omega, by rw [tz]; omega⟩
end
