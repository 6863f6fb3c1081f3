/-! COMPONENT READING: the text -/
set_option maxRecDepth 100000
/-- what a text's reference means -/
def txT (F : Nat → Prop) (g : zGd) (m : zMm) (x : Nat) (Cl : List aCl) (C : aC) : Prop :=
  (F x ∧ (zK g x).1 = 5) ∧ ∃ la ld xs, (zR m x 0 = some la ∧ F la ∧ zK g la = (107, 2)) ∧ (tLw F g m la Cl C 0 ∧ tLw F g m la Cl C 1) ∧ zR m x 2 = some ld ∧ lsR F g m ld xs ∧ dMt g m 0 Cl xs ∧ ∀ q, q ∈ xs → F q
theorem lsR_m {F F' : Nat → Prop} {g : zGd} {m : zMm} {l : Nat} {xs : List Nat} (h : lsR F g m l xs) (hF : ∀ q, F q → F' q) : lsR F' g m l xs := by
  obtain ⟨h1, h2, h3, h4, d, cap, h5, h6, h7, h8, h9⟩ := h
  exact ⟨hF l h1, h2, h3, h4, d, cap, h5, h6.imp (hF d) id, h7, h8, h9⟩
theorem txT_c {F F' : Nat → Prop} {g g' : zGd} {m m' : zMm} {x : Nat} {Cl : List aCl} {C : aC} (h : txT F g m x Cl C) (hF : ∀ q, F q → F' q) (k : agF F g m g' m') : txT F' g' m' x Cl C := by
  obtain ⟨⟨h1, h2⟩, la, ld, xs, ⟨h3, h4, h5⟩, ⟨h6, h7⟩, h8, h9, h10, h11⟩ := h
  have kx := k.2.2 x (Or.inl h1)
  have kl := k.2.2 la (Or.inl h4)
  exact ⟨⟨hF x h1, by rw [kx.1]; exact h2⟩, la, ld, xs, ⟨by rw [kx.2.2]; exact h3, hF la h4, by rw [kl.1]; exact h5⟩, ⟨tLw_c h6 hF k (by rw [kl.2.2]), tLw_c h7 hF k (by rw [kl.2.2])⟩, by rw [kx.2.2]; exact h8, lsR_m (lsR_c h9 k) hF, dMt_c Cl 0 xs (fun q hq => by have := k.2.2 q (Or.inl (h11 q hq)); exact ⟨this.1, this.2.1⟩) h10, fun q hq => hF q (h11 q hq)⟩
section
variable {τ ta : Nat} {n kd : Int} {tp : Int → Int} {g0 g : zGd} {m0 m : zMm} {x la ld : Nat} {Cl : List aCl} {C : aC} {xs : List Nat} {F : Nat → Prop} {st : aSt}
theorem rI_tx {nc : Int} (h : rI τ ta n tp g0 m0 x la ld kd nc Cl C xs F g m st) : txT (fun q => zZ g0 ≤ q ∧ q < zZ g) g m x Cl C := by
  obtain ⟨⟨h1, h2, h3, h4, h5, h6, h7⟩, ⟨x1, x2, x3, x4, x5, x6⟩, ⟨l1, l2, l3⟩, ⟨b1, b2⟩, d1, ⟨f1, f2, f3, f4⟩, ⟨w0, w1⟩, dm, xf⟩ := h
  have ag : agF F g m g m := ⟨rfl, rfl, fun _ _ => ⟨rfl, rfl, rfl⟩⟩
  refine ⟨⟨⟨x2, x3⟩, x1⟩, la, ld, xs, ⟨x4, ⟨l2, l3⟩, l1⟩, ⟨tLw_c w0 f4 ag rfl, tLw_c w1 f4 ag rfl⟩, x5, bl_ls b1 ⟨b2, b1.2.2.1⟩ (fun d hd => ?_) (by omega), dm, fun q hq => f4 q (xf q hq)⟩
  have k := (bl_d b1 hd).1
  rcases (d1 d hd).1 with y | y
  · exact Or.inr y
  · exact Or.inl ⟨y, k⟩
/-- a new text -/
theorem rd_new (h : cS τ ta n tp kd g m (0, 0, 0, 0, 0)) (n0 : 0 ≤ n) : ∃ g' m', f_X4_init (zgrow g (zSl 4) 5 0) (zfresh m (zZ g)) (some (zZ g)) = some (g', m') ∧ cS τ ta n tp kd g' m' (0, 0, 0, 0, 0) ∧ ∀ m2 s1, cS τ ta n tp kd g' m2 s1 → tkF τ m' m2 → aV n s1 → s1.o = 0 → rI τ ta n tp g m (zZ g) (zZ g + 1) (zZ g + 2) kd 0 [] [] [] (fun _ => False) g' m2 s1 := by
  have b0 := cS_b h
  obtain ⟨z, ez⟩ : ∃ z, z = zZ g := ⟨_, rfl⟩
  obtain ⟨G1, eG1⟩ : ∃ G, G = zgrow g (zSl 4) 5 0 := ⟨_, rfl⟩
  obtain ⟨A1, eA1⟩ : ∃ A, A = zfresh m z := ⟨_, rfl⟩
  obtain ⟨G2, eG2⟩ : ∃ G, G = zgrow G1 2 107 2 := ⟨_, rfl⟩
  obtain ⟨A2, eA2⟩ : ∃ A, A = zfresh A1 (z + 1) := ⟨_, rfl⟩
  obtain ⟨A3, eA3⟩ : ∃ A, A = zsR A2 z 0 (some (z + 1)) := ⟨_, rfl⟩
  rw [← ez, ← eG1, ← eA1]
  have Z1 : zZ G1 = z + 1 := by rw [eG1, zgrow_Z, ez]
  have Z2 : zZ G2 = z + 2 := by rw [eG2, zgrow_Z, Z1]
  have B1 : zB G1 = zB g := by rw [eG1, zgrow_B]
  have B2 : zB G2 = zB g := by rw [eG2, zgrow_B, B1]
  have K1 : zK G1 z = (5, 0) := by rw [eG1, ez, zgrow_Ks]
  have K2 : (zK G2 z).1 = 4 + 1 := by rw [eG2, zgrow_Kn _ _ _ _ (by omega), K1]
  have K2l : zK G2 (z + 1) = (107, 2) := by rw [eG2, ← Z1, zgrow_Ks]
  have g1 : tGr g G1 := by rw [eG1]; exact tGr.new
  have g2 : tGr G1 G2 := by rw [eG2]; exact tGr.new
  have s3 : tSm (fun q => q < z) m A3 := fun q hq => by
    rw [eA3, zsR_I, zsR_J, zsR_R, zup_r _ _ (by omega), eA2, zfresh_In _ (by omega), zfresh_Jn _ (by omega), zfresh_Rn _ (by omega), eA1, zfresh_In _ (by omega), zfresh_Jn _ (by omega), zfresh_Rn _ (by omega)]
    exact ⟨rfl, rfl, rfl⟩
  have W3 : cW G2 A3 := cW_c ⟨B2, by rw [eG2, zgrow_S, eG1, zgrow_S], fun q hq => ⟨((g1.tr g2).2 q (by omega)), (s3 q (by omega)).1, (s3 q (by omega)).2.2⟩⟩ h.2.2
  obtain ⟨m4, e4, b4, c4, d4⟩ := b_new (g := G2) (m := A3) W3 (by omega)
  rw [Z2] at e4 b4 c4 d4
  obtain ⟨G3, eG3⟩ : ∃ G, G = zgrow G2 (zSl 17) 18 0 := ⟨_, rfl⟩
  rw [← eG3] at e4 b4
  obtain ⟨M, eM⟩ : ∃ M, M = zsR m4 z 2 (some (z + 2)) := ⟨_, rfl⟩
  have g3 : tGr G2 G3 := by rw [eG3]; exact tGr.new
  have gAll := (g1.tr g2).tr g3
  have Z3 : zZ G3 = z + 3 := by rw [eG3, zgrow_Z, Z2]
  have L3 : zL G3 = zL g + 8 := by
    rw [eG3, zgrow_L, eG2, zgrow_L, eG1, zgrow_L, show zSl 17 = 3 from rfl, show zSl 4 = 3 from rfl]
  have K3 : (zK G3 z).1 = 4 + 1 := by rw [g3.2 z (by omega)]; exact K2
  have K3l : zK G3 (z + 1) = (107, 2) := by rw [g3.2 (z + 1) (by omega)]; exact K2l
  have sM : tSm (fun q => q ≠ z) m4 M := fun q hq => by
    rw [eM, zsR_I, zsR_J, zsR_R, zup_r _ _ hq]; exact ⟨rfl, rfl, rfl⟩
  have sAll : tSm (fun q => q < z) m M := fun q hq => by
    have a := s3 q hq
    have b := c4 q (by omega)
    have c := sM q (by omega)
    exact ⟨(c.1.trans b.1).trans a.1, (c.2.1.trans b.2.1).trans a.2.1, (c.2.2.trans b.2.2).trans a.2.2⟩
  have cz := c4 z (by omega)
  have cl := c4 (z + 1) (by omega)
  have s17 : zSl 4 = 3 := rfl
  have cGM : cG τ g m G3 M := ⟨gAll.1, gAll.2, fun q hq _ => sAll q (by omega), (sAll τ (by omega)).2.2, (sAll τ (by omega)).2.1⟩
  refine ⟨G3, M, ?_, cS_s h gAll (sAll.wk fun q hq => by rcases hq with y | y | y <;> omega), fun m2 s1 hS f v o => ?_⟩
  rotate_left
  · have p0 := v.1.1
    have e3 : zB G3 = zB g := gAll.1.1
    have fI : ∀ q, z ≤ q → zI m2 q = zI M q := fun q hq => f.1 q (by omega)
    have fR : zR m2 = zR M := f.2.2
    refine ⟨⟨hS, cGM.tr (cG.tk f), v, o, ⟨by rw [Z3]; omega, by rw [L3]; omega⟩, Nat.le_refl _, by decide⟩, ⟨K3, by omega, by omega, ?_, ?_, ?_⟩, ⟨K3l, by omega, by omega⟩, ⟨bl_s b4 tGr.rf (fun q hq => ?_), by omega⟩, fun d hd => ?_, ⟨fun y => y, fun y => y, fun y => y, fun q y => y.elim⟩, ⟨Or.inl ⟨rfl, ?_⟩, Or.inl ⟨rfl, ?_⟩⟩, rfl, fun q hq => absurd hq List.not_mem_nil⟩
    · rw [fR, eM, zsR_R, zup_k _ _ (by omega), cz.2.2, eA3, zsR_R, zup_s]
    · rw [fR, eM, zsR_R, zup_s]
    · rw [fI z (by omega), eM, zsR_I, cz.1, eA3, zsR_I, eA2, zfresh_In _ (by omega), eA1, zfresh_I]; decide
    · have hq : q ≠ z ∧ q ≠ τ := by
        rcases hq with y | y
        · exact ⟨by omega, by omega⟩
        · have := d4 q y
          exact ⟨by omega, by omega⟩
      have a := sM q hq.1
      exact ⟨(f.1 q hq.2).trans a.1, by rw [f.2.1]; exact a.2.1, by rw [fR]; exact a.2.2⟩
    · rw [fR, (sM (z + 2) (by omega)).2.2] at hd
      have := d4 d hd
      exact ⟨Or.inl (by omega), fun y => y⟩
    · rw [fR, (sM (z + 1) (by omega)).2.2, cl.2.2, eA3, zsR_R, zup_r _ _ (by omega), eA2, zfresh_R]
    · rw [fR, (sM (z + 1) (by omega)).2.2, cl.2.2, eA3, zsR_R, zup_r _ _ (by omega), eA2, zfresh_R]
  · have h2 : (2 : Int32).toInt = ((2 : Nat) : Int) := by decide
    show ((znewa 107 G1 A1 2).bind fun (g1, m2) => (zpr g1 m2 4 0 (some z) (some (zZ G1))).bind fun m4 => (f_J2_init (zgrow g1 (zSl 17) 18 0) (zfresh m4 (zZ g1)) (some (zZ g1))).bind fun m8 => (zpr (zgrow g1 (zSl 17) 18 0) m8 4 2 (some z) (some (zZ g1))).bind fun m9 => some ((zgrow g1 (zSl 17) 18 0), m9)) = _
    rw [e_newa h2 (by omega), Option.bind_some]
    show ((zpr (zgrow G1 2 107 2) (zfresh A1 (zZ G1)) 4 0 (some z) (some (zZ G1))).bind fun m4 => (f_J2_init (zgrow (zgrow G1 2 107 2) (zSl 17) 18 0) (zfresh m4 (zZ (zgrow G1 2 107 2))) (some (zZ (zgrow G1 2 107 2)))).bind fun m8 => (zpr (zgrow (zgrow G1 2 107 2) (zSl 17) 18 0) m8 4 2 (some z) (some (zZ (zgrow G1 2 107 2)))).bind fun m9 => some ((zgrow (zgrow G1 2 107 2) (zSl 17) 18 0), m9)) = _
    rw [← eG2, Z1, ← eA2, Z2, ← eG3, e_pr (ci := 4) K2 (by omega), Option.bind_some, ← eA3, e4, Option.bind_some, e_pr (ci := 4) K3 (by rw [g3.1.1]; omega), Option.bind_some, ← eM]
theorem t_read (hb : ∀ i, 0 ≤ i → i < n → 0 ≤ tp i ∧ tp i ≤ 255) (n300 : n ≤ 300) (n0 : 0 ≤ n) (h : cS τ ta n tp 0 g m (0, 0, 0, 0, 0)) : ∃ y, aRd (lx tp n) = some y ∧
    ((∃ fl pl r, y = .inl (fl, pl) ∧ f_X3_read g m (some τ) = some (.inr r) ∧ cX τ g m (50 * n + 60) (60 * (50 * n + 60)) fl pl r) ∨
     ∃ Cl C s' x la ld kd xs F g' m', y = .inr (Cl, C, s') ∧ f_X3_read g m (some τ) = some (.inl (some x, g', m')) ∧ rI τ ta n tp g m x la ld kd (Cl.length : Int) Cl C xs F g' m' s') := by
  have b0 := cS_b h
  obtain ⟨g1, m1, e1, hS, I1⟩ := rd_new h n0
  have kτ := cS_k hS
  have hv0 : (0 : Int) ≤ 0 ∧ (0 : Int) ≤ n := ⟨Int.le_refl _, n0⟩
  obtain ⟨m2, en, fn, T2, F2⟩ := c_next hb n300 hS.1 hS.2.2 hS.2.1 hv0
  have hS2 : cS τ ta n tp 0 g1 m2 (aNx (lx tp n) (0, 0, 0, 0, 0)) := ⟨T2, F2, cW_t hS.1 hS.2.2 fn⟩
  have lb := lx_b (tp := tp) (n := n) (a := 0) (Int.le_refl _) n0
  obtain ⟨s1, es1⟩ : ∃ s1, s1 = aNx (lx tp n) (0, 0, 0, 0, 0) := ⟨_, rfl⟩
  have v1 : aV n s1 := by
    rw [es1]
    exact ⟨⟨lb.1, lb.2.1, lb.2.2.1⟩, lb.2.2.2, Int.le_refl _, by show (0 : Int) ≤ 8; decide⟩
  rw [← es1] at hS2
  have I2 := I1 m2 s1 hS2 fn v1 (by rw [es1]; rfl)
  have pre : ∀ X, (zEx (σ := zGd × zMm) (zLoop (b_X3_read_12 (some τ) (some (zZ g))) zFuel (g1, m2)) fun (g9, m10) => some (.inl (some (zZ g), g9, m10))) = some X → f_X3_read g m (some τ) = some X := fun X hX => by
    unfold f_X3_read
    show ((f_X4_init (zgrow g (zSl 4) 5 0) (zfresh m (zZ g)) (some (zZ g))).bind _) = _
    rw [e1, Option.bind_some]
    show ((zrc g1 3 (some τ) (f_X3_next g1 m1 (some τ))).bind _) = _
    rw [e_rc (ci := 3) kτ, en, Option.bind_some]
    exact hX
  have lp := rd_loop (x := zZ g) (la := zZ g + 1) (ld := zZ g + 2) hb n300 b0.2.1 b0.2.2.1 b0.2.2.2 300 zFuel 0 [] [] [] (fun _ => False) g1 m2 s1 (by have := v1.1; omega) (by unfold zFuel; omega) I2
  rcases lp with ⟨Cl', C', xs', F', g', m', st', kd', a1, a2, a3⟩ | ⟨fl, pl, r, a1, a2, a3⟩
  · refine ⟨.inr (Cl', C', st'), ?_, Or.inr ⟨Cl', C', st', zZ g, _, _, kd', xs', F', g', m', rfl, pre _ ?_, a3⟩⟩
    · unfold aRd
      rw [← es1]; exact a1
    · rw [a2]; rfl
  · refine ⟨.inl (fl, pl), ?_, Or.inl ⟨fl, pl, r, rfl, pre _ ?_, a3⟩⟩
    · unfold aRd
      rw [← es1]; exact a1
    · rw [a2]; rfl
end
section
variable {g : zGd} {m : zMm} {b : Nat} {t n : Int} {tp : Int → Int}
/-- cells that a text's reading leaves alone -/
def txF (b : Nat) (g : zGd) (m : zMm) (g' : zGd) (m' : zMm) : Prop := tGr g g' ∧ tSm (fun q => q < zZ g ∧ q ≠ b ∧ q ≠ b + 2 ∧ q ≠ b + 71) m m' ∧
  (zR m' b = zR m b ∧ zJ m' b = zJ m b ∧ ∀ k, k ≠ 3 → k ≠ 4 → k ≠ 5 → zI m' b k = zI m b k) ∧ (zR m' (b + 2) = zR m (b + 2) ∧ zJ m' (b + 2) = zJ m (b + 2)) ∧ (zI m' (b + 71) = zI m (b + 71) ∧ zJ m' (b + 71) = zJ m (b + 71)) ∧ zI m' b 3 = 0
theorem t_text (hW : cW g m) (hbz : zB g ≤ b) (hz : b + 143 < zZ g) (k0 : (zK g b).1 = 0 + 1) (k1 : (zK g (b + 1)).1 = 1 + 1) (k2 : zK g (b + 2) = (101, 7)) (k71 : zK g (b + 71) = (108, 4)) (k143 : zK g (b + 143) = (102, 300)) (r0 : zR m b 0 = some (b + 1)) (r2 : zR m b 2 = some (b + 143)) (r10 : zR m (b + 1) 0 = some (b + 2)) (r11 : zR m (b + 1) 11 = some (b + 71)) (ht : (zI m (b + 2) 1).toInt = t) (t0 : 0 ≤ t) (t3 : t ≤ 3) (hn : (zI m b 3).toInt = n) (n0 : 0 ≤ n) (n300 : n ≤ 300) (hb : ∀ i, 0 ≤ i → i < n → 0 ≤ tp i ∧ tp i ≤ 255) (htp : ∀ i, 0 ≤ i → i < n → (zI m (b + 143) i.toNat).toInt = sgB (tp i)) :
    ∃ y g' m', aRd (lx tp n) = some y ∧ txF b g m g' m' ∧ ((zZ g' : Int) ≤ zZ g + (50 * n + 70) ∧ (zL g' : Int) ≤ zL g + 60 * (50 * n + 70)) ∧
    ((∃ fl pl, y = .inl (fl, pl) ∧ f_X0_text g m (some b) = some (-1, g', m') ∧ (zI m' b 4).toInt = fl ∧ (zI m' b 5).toInt = pl ∧ zI m' (b + 2) = zI m (b + 2) ∧ zR m' (b + 71) = zR m (b + 71)) ∨
     ∃ Cl C s' v x, y = .inr (Cl, C, s') ∧ f_X0_text g m (some b) = some (v, g', m') ∧ v.toInt = t ∧ (zI m' b 4).toInt = 0 ∧ (zI m' b 5).toInt = -1 ∧ ((zI m' (b + 2) 1).toInt = t + 1 ∧ ∀ k, k ≠ 1 → zI m' (b + 2) k = zI m (b + 2) k) ∧ (zR m' (b + 71) t.toNat = some x ∧ ∀ k, k ≠ t.toNat → zR m' (b + 71) k = zR m (b + 71) k) ∧ txT (fun q => zZ g ≤ q ∧ q < zZ g') g' m' x Cl C) := by
  obtain ⟨N, eN⟩ : ∃ N, N = zI m b 3 := ⟨_, rfl⟩
  obtain ⟨M1, eM1⟩ : ∃ M, M = zsI (zsI m b 4 0) b 5 (-1) := ⟨_, rfl⟩
  obtain ⟨τ, eτ⟩ : ∃ τ, τ = zZ g := ⟨_, rfl⟩
  obtain ⟨G, eG⟩ : ∃ G, G = zgrow g (zSl 3) 4 0 := ⟨_, rfl⟩
  obtain ⟨A, eA⟩ : ∃ A, A = zfresh M1 τ := ⟨_, rfl⟩
  obtain ⟨T, eT⟩ : ∃ T, T = zsI (zsR A τ 0 (some (b + 143))) τ 1 N := ⟨_, rfl⟩
  have gG : tGr g G := by rw [eG]; exact tGr.new
  have GZ : zZ G = τ + 1 := by rw [eG, zgrow_Z, eτ]
  have GL : zL G = zL g + 8 := by rw [eG, zgrow_L, show zSl 3 = 8 from rfl]
  have GB : zB G = zB g := gG.1.1
  have Gτ : (zK G τ).1 = 3 + 1 := by rw [eG, eτ, zgrow_Ks]
  have M1I : ∀ q, q ≠ b → zI M1 q = zI m q := fun q hq => by rw [eM1, zsI_I, zup_r _ _ hq, zsI_I, zup_r _ _ hq]
  have M1b : ∀ k, k ≠ 4 → k ≠ 5 → zI M1 b k = zI m b k := fun k h4 h5 => by rw [eM1, zsI_I, zup_k _ _ h5, zsI_I, zup_k _ _ h4]
  have M1R : zR M1 = zR m := by rw [eM1, zsI_R, zsI_R]
  have M1J : zJ M1 = zJ m := by rw [eM1, zsI_J, zsI_J]
  have sT : tSm (fun q => q < τ) M1 T := fun q hq => by
    rw [eT, zsI_I, zsI_J, zsI_R, zup_r _ _ (by omega), zsR_I, zsR_J, zsR_R, zup_r _ _ (by omega), eA, zfresh_In _ (by omega), zfresh_Jn _ (by omega), zfresh_Rn _ (by omega)]
    exact ⟨rfl, rfl, rfl⟩
  have Tτ : ∀ k, k ≠ 1 → zI T τ k = 0 := fun k hk => by rw [eT, zsI_I, zup_k _ _ hk, zsR_I, eA, zfresh_I]
  have W : cW G T := cW_c ⟨GB, gG.1.2.1, fun q hq => ⟨gG.2 q (by omega), by rw [(sT q (by omega)).1, M1I q (by omega)], by rw [(sT q (by omega)).2.2, M1R]⟩⟩ hW
  have z0 : (0 : Int32).toInt = 0 := by decide
  have hS : cS τ (b + 143) n tp 0 G T (0, 0, 0, 0, 0) := by
    refine ⟨⟨Gτ, by omega, by omega, ?_, by omega, by omega, by rw [gG.2 _ (by omega)]; exact k143, fun i i0 i1 => ?_, ?_⟩, ⟨?_, ?_, ?_, fun y => ?_, ?_, ?_⟩, W⟩
    · rw [eT, zsI_R, zsR_R, zup_s]
    · rw [(sT _ (by omega)).1, M1I _ (by omega)]; exact htp i i0 i1
    · rw [eT, zsI_I, zup_s, eN]; exact hn
    · rw [Tτ 2 (by omega)]; exact z0
    · rw [Tτ 3 (by omega)]; exact z0
    · rw [Tτ 4 (by omega)]; exact z0
    · have y : (0 : Int) = 300 := y
      omega
    · rw [Tτ 6 (by omega)]; exact z0
    · rw [Tτ 7 (by omega)]; exact z0
  have c1 : (1 : Int32).toInt = 1 := by decide
  have K1 := (gG.2 b (by omega))
  -- the call, up to the reading
  obtain ⟨kt, ekt⟩ : ∃ kt : Nat × zGd × zMm → Option (Int32 × zGd × zMm), kt = fun (q20, g21, m22) => zlt (some q20) fun r23 =>
    (zgi g21 m22 5 0 r23).bind fun v24 =>
    (zpi g21 m22 0 4 (some b) v24).bind fun m25 =>
    (zgi g21 m25 5 1 r23).bind fun v26 =>
    (zpi g21 m25 0 5 (some b) v26).bind fun m27 =>
    (zpi g21 m27 0 3 (some b) (0 : Int32)).bind fun m28 =>
    some (((-1 : Int32), g21, m28)) := ⟨_, rfl⟩
  obtain ⟨kc, ekc⟩ : ∃ kc : Option Nat × zGd × zMm → Option (Int32 × zGd × zMm), kc = fun (r17, g18, m19) =>
    (zastr 7 g18 m19 (some (b + 71)) (zI m (b + 2) 1) r17).bind fun m29 =>
    (zpi g18 m29 0 3 (some b) (0 : Int32)).bind fun m30 =>
    (zgr g18 m30 0 0 (some b)).bind fun r31 =>
    (zgr g18 m30 1 0 r31).bind fun r32 =>
    (zald 101 g18 m30 r32 (1 : Int32)).bind fun v33 =>
    (zast 101 g18 m30 r32 (1 : Int32) (v33 + (1 : Int32))).bind fun m34 =>
    (zgr g18 m34 0 0 (some b)).bind fun r35 =>
    (zgr g18 m34 1 0 r35).bind fun r36 =>
    (zald 101 g18 m34 r36 (1 : Int32)).bind fun v37 =>
    some (((v37 - (1 : Int32)), g18, m34)) := ⟨_, rfl⟩
  have K0 : (zK g b).1 = 0 + 1 := k0
  have Kb : (zK G b).1 = 0 + 1 := by rw [K1]; exact k0
  have pre : f_X0_text g m (some b) = zXd G 3 (some τ) (f_X3_read G T (some τ)) kt kc := by
    unfold f_X0_text
    rw [e_gr (ci := 0) k0, Option.bind_some, r0, e_gr (ci := 1) k1, Option.bind_some, r10, e_ald (x := 1) k2 c1 (by omega) (by omega), Option.bind_some, if_neg (fun y => by have := (i_eq ht (show (4 : Int32).toInt = 4 by decide)).mp y; omega)]
    rw [e_gi (ci := 0) k0, Option.bind_some, e_pi (ci := 0) k0 hbz, Option.bind_some, e_pi (ci := 0) k0 hbz, Option.bind_some, ← eM1, e_gr (ci := 0) k0, Option.bind_some, M1R, r0, e_gr (ci := 1) k1, Option.bind_some, M1R, r11, Option.bind_some, e_gr (ci := 1) k1, Option.bind_some, M1R, r10, e_ald (x := 1) k2 c1 (by omega) (by omega), Option.bind_some, M1I (b + 2) (by omega)]
    show ((zgr (zgrow g (zSl 3) 4 0) (zfresh M1 (zZ g)) 0 2 (some b)).bind fun r15 => zob (some (zZ g)) ((f_X3_init (zgrow g (zSl 3) 4 0) (zfresh M1 (zZ g)) (some (zZ g)) r15 (zI m b 3)).bind fun m16 => zXd (zgrow g (zSl 3) 4 0) 3 (some (zZ g)) (f_X3_read (zgrow g (zSl 3) 4 0) m16 (some (zZ g))) _ _)) = _
    rw [← eG, ← eτ, ← eA, e_gr (ci := 0) Kb, Option.bind_some]
    have e1 : zR A b 2 = some (b + 143) := by rw [eA, zfresh_Rn _ (by omega), M1R]; exact r2
    have e2 : f_X3_init G A (some τ) (some (b + 143)) (zI m b 3) = some T := by
      show ((zpr G A 3 0 (some τ) (some (b + 143))).bind fun m1 => (zpi G m1 3 1 (some τ) (zI m b 3)).bind fun m2 => some m2) = _
      rw [e_pr (ci := 3) Gτ (by omega), Option.bind_some, e_pi (ci := 3) Gτ (by omega), Option.bind_some, ← eN, ← eT]
    rw [e1]
    show ((f_X3_init G A (some τ) (some (b + 143)) (zI m b 3)).bind _) = _
    rw [e2, Option.bind_some, ekt, ekc]
    rfl
  have sT2 : ∀ q, q < zZ g → q ≠ b → zI T q = zI m q := fun q a c => by rw [(sT q (by omega)).1, M1I q c]
  obtain ⟨y, ey, hy⟩ := t_read hb n300 n0 hS
  rcases hy with ⟨fl, pl, r, y1, y2, y3⟩ | ⟨Cl, C, s', x, la, ld, kd, xs, F, g', m', y1, y2, y3⟩
  · -- a fault
    obtain ⟨q, g', m'⟩ := r
    obtain ⟨x1, x2, x3, x4, x5, x6, x7⟩ := y3
    dsimp only at x1 x2 x3 x4 x5 x6 x7
    have gr := gG.tr x4.gr
    have sm := x4.sm
    have hz' := x4.1.2.2.1
    have Kb' : (zK g' b).1 = 0 + 1 := by rw [gr.2 b (by omega)]; exact k0
    have Bb' : zB g' ≤ b := by rw [gr.1.1]; exact hbz
    obtain ⟨M2, eM2⟩ : ∃ M, M = zsI (zsI (zsI m' b 4 (zI m' q 0)) b 5 (zI m' q 1)) b 3 0 := ⟨_, rfl⟩
    have sM2 : tSm (fun k => k ≠ b) m' M2 := fun k hk => by
      rw [eM2, zsI_I, zsI_J, zsI_R, zsI_I, zsI_J, zsI_R, zsI_I, zsI_J, zsI_R, zup_r _ _ hk, zup_r _ _ hk, zup_r _ _ hk]; exact ⟨rfl, rfl, rfl⟩
    have old : ∀ k, k < zZ g → k ≠ b → zI M2 k = zI m k ∧ zJ M2 k = zJ m k ∧ zR M2 k = zR m k := fun k a c => by
      have u := sM2 k c
      have v := sm k ⟨by omega, by omega⟩
      have w := sT k (by omega)
      exact ⟨u.1.trans (v.1.trans (sT2 k a c)), u.2.1.trans (v.2.1.trans (w.2.1.trans (by rw [M1J]))), u.2.2.trans (v.2.2.trans (w.2.2.trans (by rw [M1R])))⟩
    have vb := sm b ⟨by omega, by omega⟩
    have wb := sT b (by omega)
    refine ⟨y, g', M2, ey, ⟨gr, fun k hk => old k hk.1 hk.2.1, ⟨?_, ?_, fun k a c d => ?_⟩, ⟨(old (b + 2) (by omega) (by omega)).2.2, (old (b + 2) (by omega) (by omega)).2.1⟩, ⟨(old (b + 71) (by omega) (by omega)).1, (old (b + 71) (by omega) (by omega)).2.1⟩, ?_⟩, ⟨by omega, by omega⟩, Or.inl ⟨fl, pl, y1, ?_, ?_, ?_, (old (b + 2) (by omega) (by omega)).1, (old (b + 71) (by omega) (by omega)).2.2⟩⟩
    · rw [eM2, zsI_R, zsI_R, zsI_R, vb.2.2, wb.2.2, M1R]
    · rw [eM2, zsI_J, zsI_J, zsI_J, vb.2.1, wb.2.1, M1J]
    · rw [eM2, zsI_I, zup_k _ _ a, zsI_I, zup_k _ _ d, zsI_I, zup_k _ _ c, vb.1, wb.1]; exact M1b k c d
    · rw [eM2, zsI_I, zup_s]
    · rw [pre, e_xe y2, e_xr (ci := 3) Gτ x1, ekt]
      show ((zgi g' m' 5 0 (some q)).bind _) = _
      have qb : q ≠ b := by omega
      rw [e_gi (ci := 5) x1, Option.bind_some, e_pi (ci := 0) Kb' Bb', Option.bind_some, e_gi (ci := 5) x1, Option.bind_some, zsI_I, zup_r _ _ qb, e_pi (ci := 0) Kb' Bb', Option.bind_some, e_pi (ci := 0) Kb' Bb', Option.bind_some, ← eM2]
    · rw [eM2, zsI_I, zup_k _ _ (by omega), zsI_I, zup_k _ _ (by omega), zsI_I, zup_s]; exact x2
    · rw [eM2, zsI_I, zup_k _ _ (by omega), zsI_I, zup_s]; exact x3
  · -- it is a text
    have tx := rI_tx y3
    have hc := y3.1.2.1
    have h5 := y3.1.2.2.2.2.1
    have gr := gG.tr hc.gr
    have sm := hc.sm
    have hz' := hc.1.2.2.1
    have hsp := y3.1.2.2.1.1
    have h51 := h5.1
    have h52 := h5.2
    have Kb' : (zK g' b).1 = 0 + 1 := by rw [gr.2 b (by omega)]; exact k0
    have Kb1 : (zK g' (b + 1)).1 = 1 + 1 := by rw [gr.2 (b + 1) (by omega)]; exact k1
    have Kb2 : zK g' (b + 2) = (101, 7) := by rw [gr.2 (b + 2) (by omega)]; exact k2
    have Kb71 : zK g' (b + 71) = (108, 4) := by rw [gr.2 (b + 71) (by omega)]; exact k71
    have Bb' : zB g' ≤ b := by rw [gr.1.1]; exact hbz
    have old0 : ∀ k, k < zZ g → k ≠ b → zI m' k = zI m k ∧ zJ m' k = zJ m k ∧ zR m' k = zR m k := fun k a c => by
      have v := sm k ⟨by omega, by omega⟩
      have w := sT k (by omega)
      exact ⟨v.1.trans (sT2 k a c), v.2.1.trans (w.2.1.trans (by rw [M1J])), v.2.2.trans (w.2.2.trans (by rw [M1R]))⟩
    have vb := sm b ⟨by omega, by omega⟩
    have wb := sT b (by omega)
    obtain ⟨P, eP⟩ : ∃ P, P = zsI (zsR m' (b + 71) t.toNat (some x)) b 3 0 := ⟨_, rfl⟩
    obtain ⟨M2, eM2⟩ : ∃ M, M = zsI P (b + 2) 1 (zI m (b + 2) 1 + 1) := ⟨_, rfl⟩
    have hv1 := i_add ht c1 (by omega) (by omega)
    have sM2 : tSm (fun k => k ≠ b ∧ k ≠ b + 2 ∧ k ≠ b + 71) m' M2 := fun k hk => by
      rw [eM2, zsI_I, zsI_J, zsI_R, zup_r _ _ hk.2.1, eP, zsI_I, zsI_J, zsI_R, zup_r _ _ hk.1, zsR_I, zsR_J, zsR_R, zup_r _ _ hk.2.2]; exact ⟨rfl, rfl, rfl⟩
    have PI : ∀ k, k ≠ b → zI P k = zI m' k := fun k hk => by rw [eP, zsI_I, zup_r _ _ hk, zsR_I]
    have PR : ∀ k, k ≠ b + 71 → zR P k = zR m' k := fun k hk => by rw [eP, zsI_R, zsR_R, zup_r _ _ hk]
    have o2 := old0 (b + 2) (by omega) (by omega)
    have o1 := old0 (b + 1) (by omega) (by omega)
    have o71 := old0 (b + 71) (by omega) (by omega)
    have mb : zR m' b = zR m b := by rw [vb.2.2, wb.2.2, M1R]
    have ag : agF (fun q => zZ G ≤ q ∧ q < zZ g') g' m' g' M2 := ⟨rfl, rfl, fun q hq => by
      have s := sM2 q (by rcases hq with y | y <;> omega)
      exact ⟨rfl, s.1, s.2.2⟩⟩
    refine ⟨y, g', M2, ey, ⟨gr, fun k hk => ?_, ⟨?_, ?_, fun k a c d => ?_⟩, ⟨?_, ?_⟩, ⟨?_, ?_⟩, ?_⟩, ⟨by omega, by omega⟩, Or.inr ⟨Cl, C, s', zI m (b + 2) 1 + 1 - 1, x, y1, ?_, ?_, ?_, ?_, ⟨?_, fun k hk => ?_⟩, ⟨?_, fun k hk => ?_⟩, txT_c tx (fun q hq => by have := hq.1; have := hq.2; exact ⟨by omega, by omega⟩) ag⟩⟩
    · have u := sM2 k hk.2
      have o := old0 k hk.1 hk.2.1
      exact ⟨u.1.trans o.1, u.2.1.trans o.2.1, u.2.2.trans o.2.2⟩
    · rw [eM2, zsI_R, PR b (by omega), mb]
    · rw [eM2, zsI_J, eP, zsI_J, zsR_J, vb.2.1, wb.2.1, M1J]
    · rw [eM2, zsI_I, zup_r _ _ (by omega), eP, zsI_I, zup_k _ _ a, zsR_I, vb.1, wb.1]; exact M1b k c d
    · rw [eM2, zsI_R, PR _ (by omega)]; exact o2.2.2
    · rw [eM2, zsI_J, eP, zsI_J, zsR_J]; exact o2.2.1
    · rw [eM2, zsI_I, zup_r _ _ (by omega), PI _ (by omega)]; exact o71.1
    · rw [eM2, zsI_J, eP, zsI_J, zsR_J]; exact o71.2.1
    · rw [eM2, zsI_I, zup_r _ _ (by omega), eP, zsI_I, zup_s]
    · rw [pre, e_xe y2, e_xl (ci := 3) Gτ, ekc]
      show ((zastr 7 g' m' (some (b + 71)) (zI m (b + 2) 1) (some x)).bind _) = _
      have ast : zastr 7 g' m' (some (b + 71)) (zI m (b + 2) 1) (some x) = some (zsR m' (b + 71) t.toNat (some x)) := by
        obtain ⟨p1, q1⟩ := e_ix (n := 4) ht t0 (by omega)
        rw [← q1]
        refine if_pos ⟨⟨⟨by rw [Kb71], by omega⟩, by rw [Kb71]; exact p1⟩, ?_⟩
        show zAsOk 7 (zK g' x).1 = true
        rw [tx.1.2]; decide
      have a1 : zI P (b + 2) 1 = zI m (b + 2) 1 := by rw [PI _ (by omega), o2.1]
      have q1 : zast 101 g' P (some (b + 2)) (1 : Int32) (zI m (b + 2) 1 + (1 : Int32)) = some M2 := by
        obtain ⟨p1, q1⟩ := e_ix (n := 7) c1 (by omega) (by omega)
        have q1 : (1 : Int32).toNatClampNeg = 1 := q1
        rw [eM2]
        have : zast 101 g' P (some (b + 2)) (1 : Int32) (zI m (b + 2) 1 + (1 : Int32)) = some (zsI P (b + 2) (1 : Int32).toNatClampNeg (zI m (b + 2) 1 + (1 : Int32))) := by
          refine if_pos ⟨⟨by rw [Kb2], by omega⟩, ?_⟩
          rw [Kb2]; exact p1
        rw [this, q1]
      have r0P : zR P b 0 = some (b + 1) := by rw [PR b (by omega), mb]; exact r0
      have r1P : zR P (b + 1) 0 = some (b + 2) := by rw [PR _ (by omega), o1.2.2]; exact r10
      have M2R : zR M2 = zR P := by rw [eM2, zsI_R]
      rw [ast, Option.bind_some, e_pi (ci := 0) Kb' Bb', Option.bind_some, ← eP, e_gr (ci := 0) Kb', Option.bind_some, r0P, e_gr (ci := 1) Kb1, Option.bind_some, r1P, e_ald (x := 1) Kb2 c1 (by omega) (by omega), Option.bind_some]
      show ((zast 101 g' P (some (b + 2)) (1 : Int32) (zI P (b + 2) 1 + (1 : Int32))).bind _) = _
      rw [a1, q1, Option.bind_some, e_gr (ci := 0) Kb', Option.bind_some, M2R, r0P, e_gr (ci := 1) Kb1, Option.bind_some, M2R, r1P, e_ald (x := 1) Kb2 c1 (by omega) (by omega), Option.bind_some]
      show some (zI M2 (b + 2) 1 - (1 : Int32), g', M2) = _
      rw [eM2, zsI_I, zup_s]
    · rw [i_sub hv1 c1 (by omega) (by omega)]; omega
    · rw [eM2, zsI_I, zup_r _ _ (by omega), eP, zsI_I, zup_k _ _ (by omega), zsR_I, vb.1, wb.1, eM1, zsI_I, zup_k _ _ (by omega), zsI_I, zup_s]; decide
    · rw [eM2, zsI_I, zup_r _ _ (by omega), eP, zsI_I, zup_k _ _ (by omega), zsR_I, vb.1, wb.1, eM1, zsI_I, zup_s]; decide
    · rw [eM2, zsI_I, zup_s]; exact hv1
    · rw [eM2, zsI_I, zup_k _ _ hk, PI _ (by omega)]; exact congrFun o2.1 k
    · rw [eM2, zsI_R, eP, zsI_R, zsR_R, zup_s]
    · rw [eM2, zsI_R, eP, zsI_R, zsR_R, zup_k _ _ hk]; exact congrFun o71.2.2 k
end
