/-! COMPONENT READING: what a reading step gives -/
set_option maxRecDepth 100000
/-- at most k cells, sixty slots for each -/
def tBd (g g' : zGd) (k : Int) : Prop := (zZ g' : Int) ≤ zZ g + k ∧ (zL g' : Int) ≤ zL g + 60 * k
theorem tBd.tr {g1 g2 g3 : zGd} {j k i : Int} (h : tBd g1 g2 j) (h2 : tBd g2 g3 k) (hi : j + k ≤ i) : tBd g1 g3 i := by
  unfold tBd at *
  omega
theorem tBd.rf {g : zGd} {k : Int} (h : 0 ≤ k) : tBd g g k := by
  unfold tBd; omega
theorem tBd.new {g : zGd} {n t len : Nat} (h : n ≤ 60) : tBd g (zgrow g n t len) 1 := by
  unfold tBd
  rw [zgrow_Z, zgrow_L]; omega
/-- all cells of one world but some -/
def tSm (P : Nat → Prop) (m m' : zMm) : Prop := ∀ q, P q → zI m' q = zI m q ∧ zJ m' q = zJ m q ∧ zR m' q = zR m q
theorem tSm.tr {P : Nat → Prop} {m1 m2 m3 : zMm} (h : tSm P m1 m2) (k : tSm P m2 m3) : tSm P m1 m3 := fun q hq => ⟨(k q hq).1.trans (h q hq).1, (k q hq).2.1.trans (h q hq).2.1, (k q hq).2.2.trans (h q hq).2.2⟩
theorem tSm.wk {P P' : Nat → Prop} {m1 m2 : zMm} (h : tSm P m1 m2) (hp : ∀ q, P' q → P q) : tSm P' m1 m2 := fun q hq => h q (hp q hq)
theorem tSm.rf {P : Nat → Prop} {m : zMm} : tSm P m m := fun _ _ => ⟨rfl, rfl, rfl⟩
/-- the world is larger -/
def tGr (g g' : zGd) : Prop := (zB g' = zB g ∧ zS g' = zS g ∧ zZ g ≤ zZ g' ∧ zL g ≤ zL g') ∧ ∀ q, q < zZ g → zK g' q = zK g q
theorem tGr.rf {g : zGd} : tGr g g := ⟨⟨rfl, rfl, Nat.le_refl _, Nat.le_refl _⟩, fun _ _ => rfl⟩
theorem tGr.tr {g1 g2 g3 : zGd} (h : tGr g1 g2) (k : tGr g2 g3) : tGr g1 g3 := by
  obtain ⟨⟨a1, a2, a3, a4⟩, a5⟩ := h
  obtain ⟨⟨b1, b2, b3, b4⟩, b5⟩ := k
  exact ⟨⟨b1.trans a1, b2.trans a2, by omega, by omega⟩, fun q hq => (b5 q (by omega)).trans (a5 q hq)⟩
theorem tGr.new {g : zGd} {n t len : Nat} : tGr g (zgrow g n t len) := ⟨⟨rfl, rfl, by rw [zgrow_Z]; omega, by rw [zgrow_L]; omega⟩, fun q hq => zgrow_Kn _ _ _ _ (by omega)⟩
theorem cG.gr {τ : Nat} {g g' : zGd} {m m' : zMm} (h : cG τ g m g' m') : tGr g g' := ⟨h.1, h.2.1⟩
theorem cG.sm {τ : Nat} {g g' : zGd} {m m' : zMm} (h : cG τ g m g' m') : tSm (fun q => q < zZ g ∧ q ≠ τ) m m' := fun q hq => h.2.2.1 q hq.1 hq.2
/-- a base world, then a step that changes newer cells alone -/
theorem cG.st {τ : Nat} {g0 g g' : zGd} {m0 m m' : zMm} (h : cG τ g0 m0 g m) (hg : tGr g g') (hs : tSm (fun q => q < zZ g0) m m') (hτ : τ < zZ g0) : cG τ g0 m0 g' m' := by
  have k := (h.gr).tr hg
  refine ⟨k.1, k.2, fun q a b => ?_, ?_, ?_⟩
  · have x := h.2.2.1 q a b
    have y := hs q a
    exact ⟨y.1.trans x.1, y.2.1.trans x.2.1, y.2.2.trans x.2.2⟩
  · exact (hs τ hτ).2.2.trans h.2.2.2.1
  · exact (hs τ hτ).2.1.trans h.2.2.2.2
section
variable {τ ta : Nat} {n kd : Int} {tp : Int → Int} {g g' : zGd} {m m' : zMm} {st : aSt}
theorem cS_s (h : cS τ ta n tp kd g m st) (hg : tGr g g') (hs : tSm (fun q => q < zB g ∨ q = τ ∨ q = ta) m m') : cS τ ta n tp kd g' m' st := by
  have hb := cS_b h
  obtain ⟨⟨h1, h2, h3, h4, h5, h6, h7, h8, h9⟩, h10, h11⟩ := h
  obtain ⟨⟨k1, k2, k3, k4⟩, k5⟩ := hg
  have sτ := hs τ (by omega)
  have sa := hs ta (by omega)
  refine ⟨⟨by rw [k5 τ h3]; exact h1, by rw [k1]; exact h2, by omega, by rw [sτ.2.2]; exact h4, h5, by omega, by rw [k5 ta h6]; exact h7, fun i a b => by rw [sa.1]; exact h8 i a b, by rw [sτ.1]; exact h9⟩, ?_, cW_c ⟨k1, k2, fun q hq => ⟨k5 q (by omega), (hs q (by omega)).1, (hs q (by omega)).2.2⟩⟩ h11⟩
  unfold cTf
  rw [sτ.1]; exact h10
theorem agF_s {F : Nat → Prop} (hg : tGr g g') (hs : tSm (fun q => F q ∨ q < zB g) m m') (hF : ∀ q, F q → q < zZ g) (hb : zB g ≤ zZ g) : agF F g m g' m' := ⟨hg.1.1, hg.1.2.1, fun q hq => ⟨hg.2 q (by rcases hq with y | y; exact hF q y; omega), (hs q hq).1, (hs q hq).2.2⟩⟩
/-- a list takes one more, in the world of tokens -/
theorem t_add {g0 : zGd} {l x : Nat} {xs : List Nat} (hS : cS τ ta n tp kd g m st) (hτ : τ < zZ g0) (hta : ta < zZ g0) (h0 : zB g ≤ zZ g0) (hz : zZ g0 ≤ zZ g) (hl : bl g m l xs) (hl0 : zZ g0 ≤ l) (hd : ∀ d, zR m l 1 = some d → d < zB g ∨ zZ g0 ≤ d) (hn : xs.length ≤ 300) (hx : kOk g x) (hxz : x < zZ g) : ∃ g' m', zrc g 17 (some l) (f_J2_add g m (some l) (some x)) = some (1, g', m') ∧ cS τ ta n tp kd g' m' st ∧ bl g' m' l (xs ++ [x]) ∧ tGr g g' ∧ tSm (fun q => q < zZ g ∧ q ≠ l ∧ (∀ d, zR m l 1 = some d → zB g ≤ d → q ≠ d)) m m' ∧ tBd g g' 11 ∧ ∀ d, zR m' l 1 = some d → zR m l 1 = some d ∨ zZ g ≤ d := by
  obtain ⟨g', m', e, b, ⟨u1, u2, u3, u4, u5, u6⟩, u7, u8, d', u9, u10⟩ := b_add hS.2.2 (by omega) hl (by omega) hx hxz
  have hg : tGr g g' := ⟨⟨u1, u2, u3, u5⟩, u7⟩
  have hs : tSm (fun q => q < zZ g ∧ q ≠ l ∧ (∀ d, zR m l 1 = some d → zB g ≤ d → q ≠ d)) m m' := fun q hq => u8 q hq.1 hq.2.1 hq.2.2
  refine ⟨g', m', by rw [e_rc (ci := 17) hl.1, e], cS_s hS hg (hs.wk fun q hq => ?_), b, hg, hs, by unfold tBd; omega, fun d hd' => ?_⟩
  · have hq : q < zZ g0 := by
      rcases hq with y | y | y <;> omega
    refine ⟨by omega, by omega, fun d a b c => ?_⟩
    rcases hd d a with y | y <;> omega
  · rw [u9] at hd'
    cases hd'
    exact u10
/-- a chain of signs, made new -/
theorem t_ch0 {z c : Nat} (hW : cW g m) (hb : zB g ≤ zZ g) (zk : (zK g z).1 = 7) (zb : zB g ≤ z) (zz : z < zZ g) : ∃ g' m', zob (some z) (f_X6_init g m (some z) (some c)) = some (g', m') ∧ zR m' z 0 = some c ∧ zR m' z 1 = some (zZ g) ∧ zR m' z 2 = some (zZ g + 1) ∧ bl g' m' (zZ g) [] ∧ bl g' m' (zZ g + 1) [] ∧ tGr g g' ∧ tSm (fun q => q < zZ g ∧ q ≠ z) m m' ∧ tBd g g' 2 ∧ (∀ d, zR m' (zZ g) 1 = some d → d < zB g) ∧ (∀ d, zR m' (zZ g + 1) 1 = some d → d < zB g) ∧ zZ g' = zZ g + 2 := by
  have s17 : zSl 17 = 3 := rfl
  obtain ⟨m1, e1, b1, f1, d1⟩ := b_new (m := m) hW hb
  obtain ⟨G, eG⟩ : ∃ G, G = zgrow g (zSl 17) 18 0 := ⟨_, rfl⟩
  rw [← eG] at e1 b1
  have GZ : zZ G = zZ g + 1 := by rw [eG, zgrow_Z]
  have GL : zL G = zL g + 3 := by rw [eG, zgrow_L, s17]
  have gG : tGr g G := by rw [eG]; exact tGr.new
  have Gz : (zK G z).1 = 6 + 1 := by rw [gG.2 z zz]; exact zk
  have GzB : zB G ≤ z := by rw [gG.1.1]; exact zb
  obtain ⟨M1, eM1⟩ : ∃ M1, M1 = zsR m1 z 1 (some (zZ g)) := ⟨_, rfl⟩
  have s1 : tSm (fun q => q ≠ zZ g ∧ q ≠ z) m M1 := fun q hq => by
    rw [eM1, zsR_I, zsR_J, zsR_R, zup_r _ _ hq.2]; exact f1 q hq.1
  have sM : tSm (fun q => q ≠ z) m1 M1 := fun q hq => by
    rw [eM1, zsR_I, zsR_J, zsR_R, zup_r _ _ hq]; exact ⟨rfl, rfl, rfl⟩
  have W1 : cW G M1 := cW_c ⟨gG.1.1, gG.1.2.1, fun q hq => ⟨gG.2 q (by omega), (s1 q ⟨by omega, by omega⟩).1, (s1 q ⟨by omega, by omega⟩).2.2⟩⟩ hW
  obtain ⟨m2, e2, b2, f2, d2⟩ := b_new (m := M1) W1 (by rw [gG.1.1]; omega)
  obtain ⟨H, eH⟩ : ∃ H, H = zgrow G (zSl 17) 18 0 := ⟨_, rfl⟩
  rw [← eH] at e2 b2
  have gH : tGr G H := by rw [eH]; exact tGr.new
  have HZ : zZ H = zZ g + 2 := by rw [eH, zgrow_Z, GZ]
  have HL : zL H = zL g + 6 := by rw [eH, zgrow_L, s17, GL]
  have Hz : (zK H z).1 = 6 + 1 := by rw [gH.2 z (by omega)]; exact Gz
  have HzB : zB H ≤ z := by rw [gH.1.1]; exact GzB
  rw [GZ] at e2 b2 f2 d2
  obtain ⟨M2, eM2⟩ : ∃ M2, M2 = zsR (zsR m2 z 2 (some (zZ g + 1))) z 0 (some c) := ⟨_, rfl⟩
  have s2 : tSm (fun q => q ≠ z) m2 M2 := fun q hq => by
    rw [eM2, zsR_I, zsR_J, zsR_R, zsR_I, zsR_J, zsR_R, zup_r _ _ hq, zup_r _ _ hq]; exact ⟨rfl, rfl, rfl⟩
  have sall : tSm (fun q => q < zZ g ∧ q ≠ z) m M2 := fun q hq => by
    have a := s1 q ⟨by omega, hq.2⟩
    have b := f2 q (by omega)
    have c := s2 q hq.2
    exact ⟨(c.1.trans b.1).trans a.1, (c.2.1.trans b.2.1).trans a.2.1, (c.2.2.trans b.2.2).trans a.2.2⟩
  have l1 : tSm (fun q => q ≠ z ∧ q ≠ zZ g + 1) m1 M2 := fun q hq => by
    have a := sM q hq.1
    have b := f2 q hq.2
    have c := s2 q hq.1
    exact ⟨(c.1.trans b.1).trans a.1, (c.2.1.trans b.2.1).trans a.2.1, (c.2.2.trans b.2.2).trans a.2.2⟩
  refine ⟨H, M2, ?_, ?_, ?_, ?_, ?_, ?_, gG.tr gH, sall, by unfold tBd; omega, fun d hd => ?_, fun d hd => ?_, HZ⟩
  · show f_X6_init g m (some z) (some c) = _
    show ((f_J2_init (zgrow g (zSl 17) 18 0) (zfresh m (zZ g)) (some (zZ g))).bind fun m4 => (zpr (zgrow g (zSl 17) 18 0) m4 6 1 (some z) (some (zZ g))).bind fun m5 => (f_J2_init (zgrow (zgrow g (zSl 17) 18 0) (zSl 17) 18 0) (zfresh m5 (zZ (zgrow g (zSl 17) 18 0))) (some (zZ (zgrow g (zSl 17) 18 0)))).bind fun m9 => (zpr (zgrow (zgrow g (zSl 17) 18 0) (zSl 17) 18 0) m9 6 2 (some z) (some (zZ (zgrow g (zSl 17) 18 0)))).bind fun m10 => (zpr (zgrow (zgrow g (zSl 17) 18 0) (zSl 17) 18 0) m10 6 0 (some z) (some c)).bind fun m11 => some (zgrow (zgrow g (zSl 17) 18 0) (zSl 17) 18 0, m11)) = _
    rw [← eG, e1, Option.bind_some, e_pr (ci := 6) Gz GzB, Option.bind_some, ← eM1, ← eH, GZ, e2, Option.bind_some, e_pr (ci := 6) Hz HzB, Option.bind_some, e_pr (ci := 6) Hz HzB, Option.bind_some, eM2]
  · rw [eM2, zsR_R, zup_s]
  · have b := f2 z (by omega)
    rw [eM2, zsR_R, zup_k _ _ (by omega), zsR_R, zup_k _ _ (by omega), b.2.2, eM1, zsR_R, zup_s]
  · rw [eM2, zsR_R, zup_k _ _ (by omega), zsR_R, zup_s]
  · have q0 := l1 (zZ g) ⟨by omega, by omega⟩
    refine bl_c b1 gH.1.1 gH.1.2.1 gH.1.2.2.1 gH.2 (by rw [q0.1]) (by rw [q0.2.2]) (fun d hd => ?_)
    have := d1 d hd
    rw [(l1 d ⟨by omega, by omega⟩).2.2]
  · have q0 := s2 (zZ g + 1) (by omega)
    refine bl_c b2 rfl rfl (Nat.le_refl _) (fun _ _ => rfl) (by rw [q0.1]) (by rw [q0.2.2]) (fun d hd => ?_)
    have := d2 d hd
    rw [gG.1.1] at this
    rw [(s2 d (by omega)).2.2]
  · rw [(l1 (zZ g) ⟨by omega, by omega⟩).2.2] at hd
    exact d1 d hd
  · rw [(s2 (zZ g + 1) (by omega)).2.2] at hd
    have := d2 d hd
    rw [gG.1.1] at this
    exact this
end
