/-! COMPONENT READING: small ones -/
set_option maxRecDepth 100000
/-- the world goes on: older cells stay, but the tokens' -/
def cG (τ : Nat) (g : zGd) (m : zMm) (g' : zGd) (m' : zMm) : Prop := (zB g' = zB g ∧ zS g' = zS g ∧ zZ g ≤ zZ g' ∧ zL g ≤ zL g') ∧ (∀ q, q < zZ g → zK g' q = zK g q) ∧ (∀ q, q < zZ g → q ≠ τ → zI m' q = zI m q ∧ zJ m' q = zJ m q ∧ zR m' q = zR m q) ∧ zR m' τ = zR m τ ∧ zJ m' τ = zJ m τ
/-- what is read lies there, tokens stand at st -/
def cS (τ ta : Nat) (n : Int) (tp : Int → Int) (kd : Int) (g : zGd) (m : zMm) (st : aSt) : Prop := cTa τ ta n tp g m ∧ cTf τ m st kd ∧ cW g m
/-- a fault is thrown -/
def cX (τ : Nat) (g : zGd) (m : zMm) (c d f p : Int) (r : Nat × zGd × zMm) : Prop := (zK r.2.1 r.1).1 = 6 ∧ (zI r.2.2 r.1 0).toInt = f ∧ (zI r.2.2 r.1 1).toInt = p ∧ cG τ g m r.2.1 r.2.2 ∧ (zZ r.2.1 : Int) ≤ zZ g + c ∧ (zL r.2.1 : Int) ≤ zL g + d ∧ zZ g ≤ r.1
theorem cG.rf {τ : Nat} {g : zGd} {m : zMm} : cG τ g m g m := ⟨⟨rfl, rfl, Nat.le_refl _, Nat.le_refl _⟩, fun _ _ => rfl, fun _ _ _ => ⟨rfl, rfl, rfl⟩, rfl, rfl⟩
theorem cG.tr {τ : Nat} {g1 g2 g3 : zGd} {m1 m2 m3 : zMm} (h : cG τ g1 m1 g2 m2) (k : cG τ g2 m2 g3 m3) : cG τ g1 m1 g3 m3 := by
  obtain ⟨⟨a1, a2, a3, a4⟩, a5, a6, a7, a8⟩ := h
  obtain ⟨⟨b1, b2, b3, b4⟩, b5, b6, b7, b8⟩ := k
  refine ⟨⟨b1.trans a1, b2.trans a2, by omega, by omega⟩, fun q hq => (b5 q (by omega)).trans (a5 q hq), fun q hq hn => ?_, b7.trans a7, b8.trans a8⟩
  have x := a6 q hq hn
  have y := b6 q (by omega) hn
  exact ⟨y.1.trans x.1, y.2.1.trans x.2.1, y.2.2.trans x.2.2⟩
theorem cG.tk {τ : Nat} {g : zGd} {m m' : zMm} (h : tkF τ m m') : cG τ g m g m' := ⟨⟨rfl, rfl, Nat.le_refl _, Nat.le_refl _⟩, fun _ _ => rfl, fun q _ hn => ⟨h.1 q hn, by rw [h.2.1], by rw [h.2.2]⟩, by rw [h.2.2], by rw [h.2.1]⟩
theorem cG.bs {τ : Nat} {g g' : zGd} {m m' : zMm} (h : cG τ g m g' m') (hb : zB g ≤ τ) (hz : zB g ≤ zZ g) : cBs g m g' m' := ⟨h.1.1, h.1.2.1, fun q hq => ⟨h.2.1 q (by omega), (h.2.2.1 q (by omega) (by omega)).1, (h.2.2.1 q (by omega) (by omega)).2.2⟩⟩
/-- a new cell, which alone changes after -/
theorem cG.new {τ : Nat} {g : zGd} {m m' : zMm} {k t len : Nat} (hI : ∀ q, q ≠ zZ g → zI m' q = zI m q) (hJ : ∀ q, q ≠ zZ g → zJ m' q = zJ m q) (hR : ∀ q, q ≠ zZ g → zR m' q = zR m q) (hτ : τ < zZ g) : cG τ g m (zgrow g k t len) m' :=
  ⟨⟨rfl, rfl, by rw [zgrow_Z]; omega, by rw [zgrow_L]; omega⟩, fun q hq => zgrow_Kn _ _ _ _ (by omega), fun q hq _ => ⟨hI q (by omega), hJ q (by omega), hR q (by omega)⟩, hR τ (by omega), hJ τ (by omega)⟩
section
variable {τ ta : Nat} {n kd : Int} {tp : Int → Int} {g g' : zGd} {m m' : zMm} {st : aSt}
theorem cS_b (h : cS τ ta n tp kd g m st) : zB g ≤ τ ∧ τ < zZ g ∧ ta < zZ g ∧ zB g ≤ zZ g := ⟨h.1.2.1, h.1.2.2.1, h.1.2.2.2.2.2.1, by have := h.1.2.1; have := h.1.2.2.1; omega⟩
theorem cS_k (h : cS τ ta n tp kd g m st) : (zK g τ).1 = 3 + 1 := h.1.1
/-- the world goes on, the tokens' cell stays -/
theorem cS_g (h : cS τ ta n tp kd g m st) (k : cG τ g m g' m') (hτ : zI m' τ = zI m τ) : cS τ ta n tp kd g' m' st := by
  have hb := cS_b h
  obtain ⟨⟨h1, h2, h3, h4, h5, h6, h7, h8, h9⟩, h10, h11⟩ := h
  have k' := k
  obtain ⟨⟨k1, k2, k3, k4⟩, k5, k6, k7, k8⟩ := k
  refine ⟨⟨by rw [k5 τ h3]; exact h1, by rw [k1]; exact h2, by omega, by rw [k7]; exact h4, h5, by omega, by rw [k5 ta h6]; exact h7, fun i a b => by rw [(k6 ta h6 h5).1]; exact h8 i a b, by rw [hτ]; exact h9⟩, ?_, cW_c (k'.bs hb.1 hb.2.2.2) h11⟩
  unfold cTf
  rw [hτ]; exact h10
theorem cS_next (hb : ∀ i, 0 ≤ i → i < n → 0 ≤ tp i ∧ tp i ≤ 255) (n300 : n ≤ 300) (h : cS τ ta n tp kd g m st) (hv : aV n st) : ∃ m', f_X3_next g m (some τ) = some (g, m') ∧ tkF τ m m' ∧ cS τ ta n tp kd g m' (aNx (lx tp n) st) := by
  obtain ⟨m', e, f, h1, h2⟩ := c_next hb n300 h.1 h.2.2 h.2.1 ⟨by have := hv.1; omega, hv.1.2.2⟩
  exact ⟨m', e, f, h1, h2, cW_t h.1 h.2.2 f⟩
theorem e_xl {β α : Type} {a ci : Nat} {kt : Nat × zGd × zMm → Option α} {K : β → Option α} {x : β} (h : (zK g a).1 = ci + 1) : zXd g ci (some a) (some (.inl x)) kt K = K x := by
  show (if (zK g a).1 = ci + 1 then _ else none) = _
  rw [if_pos h]; rfl
theorem e_xr {β α : Type} {a ci : Nat} {kt : Nat × zGd × zMm → Option α} {K : β → Option α} {q : Nat × zGd × zMm} (h : (zK g a).1 = ci + 1) (hq : (zK q.2.1 q.1).1 = 6) : zXd g ci (some a) (some (.inr q)) kt K = kt q := by
  show (if (zK g a).1 = ci + 1 then _ else none) = _
  rw [if_pos h]
  show (if (zK q.2.1 q.1).1 = 6 then kt q else none) = _
  rw [if_pos hq]
theorem e_xe {β α : Type} {a ci : Nat} {f f' : Option (β ⊕ (Nat × zGd × zMm))} {kt : Nat × zGd × zMm → Option α} {K : β → Option α} (e : f = f') : zXd g ci (some a) f kt K = zXd g ci (some a) f' kt K := by rw [e]
theorem cX.tr {τ : Nat} {g1 g2 : zGd} {m1 m2 : zMm} {c1 d1 c2 d2 c d f p : Int} {r : Nat × zGd × zMm} (h : cG τ g1 m1 g2 m2) (hc : (zZ g2 : Int) ≤ zZ g1 + c1) (hd : (zL g2 : Int) ≤ zL g1 + d1) (k : cX τ g2 m2 c2 d2 f p r) (ec : c1 + c2 ≤ c) (ed : d1 + d2 ≤ d) : cX τ g1 m1 c d f p r := by
  obtain ⟨k1, k2, k3, k4, k5, k6, k7⟩ := k
  have := h.1.2.2.1
  exact ⟨k1, k2, k3, h.tr k4, by omega, by omega, by omega⟩
theorem cX.wk {c2 d2 c d f p : Int} {r : Nat × zGd × zMm} (k : cX τ g m c2 d2 f p r) (ec : c2 ≤ c) (ed : d2 ≤ d) : cX τ g m c d f p r := by
  obtain ⟨k1, k2, k3, k4, k5, k6, k7⟩ := k
  exact ⟨k1, k2, k3, k4, by omega, by omega, k7⟩
theorem c_wrong (h : cS τ ta n tp kd g m st) {f : Int32} {fi : Int} (hf : f.toInt = fi) : ∃ r, (∀ (α : Type) (K : Nat → zGd → zMm → Option α), ((zrc g 3 (some τ) (f_X3_wrong g m (some τ) f)).bind fun (r, g1, m1) => (zthr g1 r).bind fun q => K q g1 m1) = K r.1 r.2.1 r.2.2) ∧ cX τ g m 1 8 fi st.p r := by
  have hb := cS_b h
  obtain ⟨z, ez⟩ : ∃ z, z = zZ g := ⟨_, rfl⟩
  obtain ⟨G, eG⟩ : ∃ G, G = zgrow g (zSl 5) 6 0 := ⟨_, rfl⟩
  obtain ⟨A, eA⟩ : ∃ A, A = zfresh m z := ⟨_, rfl⟩
  obtain ⟨B, eB⟩ : ∃ B, B = zsI (zsI A z 0 f) z 1 (zI m τ 3) := ⟨_, rfl⟩
  have Kz : (zK G z).1 = 5 + 1 := by rw [eG, ez, zgrow_Ks]
  have Bz : zB G ≤ z := by rw [eG, zgrow_B, ez]; exact hb.2.2.2
  have Aτ : zI A τ = zI m τ := by rw [eA]; exact zfresh_In m (by omega)
  have hKτ : (zK G τ).1 = 3 + 1 := by rw [eG, zgrow_Kn _ _ _ _ (by omega)]; exact cS_k h
  have key : f_X3_wrong g m (some τ) f = some (some z, G, B) := by
    unfold f_X3_wrong znewo
    dsimp only [zlt]
    rw [← ez, ← eA]
    show ((zgi (zgrow g (zSl 5) 6 0) A 3 3 (some τ)).bind _) = _
    rw [← eG, e_gi (ci := 3) hKτ, Aτ]
    dsimp only [Option.bind_some]
    have hx : zexc G A (some z) = some () := by
      refine if_pos ⟨⟨Kz, Bz⟩, ?_⟩
      rw [eA, zfresh_R]
    have h5 : f_X5_init G A (some z) f (zI m τ 3) = some B := by
      unfold f_X5_init
      rw [hx]
      dsimp only [Option.bind_some]
      rw [e_pi (ci := 5) Kz Bz]
      dsimp only [Option.bind_some]
      rw [e_pi (ci := 5) Kz Bz, eB]
      rfl
    show ((f_X5_init G A (some z) f (zI m τ 3)).bind _) = _
    rw [h5]; rfl
  refine ⟨(z, G, B), fun α K => ?_, Kz, ?_, ?_, ?_, ?_, ?_, by show zZ g ≤ z; omega⟩
  · rw [e_rc (ci := 3) (cS_k h), key]
    dsimp only [Option.bind_some]
    have : zthr G (some z) = some z := if_pos Kz
    rw [this]; rfl
  · show (zI B z 0).toInt = fi
    rw [eB, zsI_I, zup_k _ _ (by omega), zsI_I, zup_s]; exact hf
  · show (zI B z 1).toInt = st.p
    rw [eB, zsI_I, zup_s]; exact h.2.1.2.1
  · show cG τ g m G B
    rw [eG]
    refine cG.new (fun q hq => ?_) (fun q hq => ?_) (fun q hq => ?_) hb.2.1
    · rw [eB, zsI_I, zup_r _ _ (by omega), zsI_I, zup_r _ _ (by omega), eA, zfresh_In m (by omega)]
    · rw [eB, zsI_J, zsI_J, eA, zfresh_Jn m (by omega)]
    · rw [eB, zsI_R, zsI_R, eA, zfresh_Rn m (by omega)]
  · show (zZ G : Int) ≤ zZ g + 1
    rw [eG, zgrow_Z]; omega
  · show (zL G : Int) ≤ zL g + 8
    rw [eG, zgrow_L]
    have : zSl 5 = 8 := rfl
    omega
theorem c_want (hb : ∀ i, 0 ≤ i → i < n → 0 ≤ tp i ∧ tp i ≤ 255) (n300 : n ≤ 300) (h : cS τ ta n tp kd g m st) (hv : aV n st) {c : Int32} {ci : Int} (hc : c.toInt = ci) : (∃ m', aWt (lx tp n) ci st = .inl (aNx (lx tp n) st) ∧ st.s = ci ∧ f_X3_want g m (some τ) c = some (.inl ((), g, m')) ∧ tkF τ m m' ∧ cS τ ta n tp kd g m' (aNx (lx tp n) st)) ∨ ∃ r, aWt (lx tp n) ci st = .inr (1, st.p) ∧ f_X3_want g m (some τ) c = some (.inr r) ∧ cX τ g m 1 8 1 st.p r := by
  have hs := i_eq h.2.1.2.2.1 hc
  unfold aWt f_X3_want
  rw [e_gi (ci := 3) (cS_k h)]
  dsimp only [Option.bind_some]
  by_cases q : st.s = ci
  · obtain ⟨m', e, f, k⟩ := cS_next hb n300 h hv
    refine Or.inl ⟨m', by rw [if_pos q], q, ?_, f, k⟩
    rw [if_pos (hs.mpr q), e_rc (ci := 3) (cS_k h), e]; rfl
  · obtain ⟨r, e, k⟩ := c_wrong h (f := 1) (fi := 1) (by decide)
    refine Or.inr ⟨r, by rw [if_neg q], ?_, k⟩
    rw [if_neg (fun y => q (hs.mp y))]
    exact e (((Unit) × zGd × zMm) ⊕ (Nat × zGd × zMm)) (fun q g1 m1 => some (.inr (q, g1, m1)))
theorem c_number (hb : ∀ i, 0 ≤ i → i < n → 0 ≤ tp i ∧ tp i ≤ 255) (n300 : n ≤ 300) (h : cS τ ta n tp kd g m st) (hv : aV n st) {lo hi : Int32} {l k : Int} (hl : lo.toInt = l) (hk : hi.toInt = k) : (∃ (m' : zMm) (v : Int32), aNu (lx tp n) l k st = .inl (v.toInt, aNx (lx tp n) st) ∧ st.s = 300 ∧ f_X3_number g m (some τ) lo hi = some (.inl (v, g, m')) ∧ l ≤ v.toInt ∧ v.toInt ≤ k ∧ tkF τ m m' ∧ cS τ ta n tp kd g m' (aNx (lx tp n) st)) ∨ ∃ f r, aNu (lx tp n) l k st = .inr (f, st.p) ∧ f_X3_number g m (some τ) lo hi = some (.inr r) ∧ cX τ g m 1 8 f st.p r := by
  have hs := i_eq h.2.1.2.2.1 (show (300 : Int32).toInt = 300 by decide)
  unfold aNu f_X3_number
  rw [e_gi (ci := 3) (cS_k h)]
  dsimp only [Option.bind_some]
  by_cases q : st.s = 300
  · have hn := h.2.1.2.2.2.1 q
    have h1 := i_lt hn hl
    have h2 := i_le hn hk
    rw [if_pos q, if_pos (hs.mpr q), e_gi (ci := 3) (cS_k h)]
    dsimp only [Option.bind_some]
    by_cases b : st.n < l ∨ k < st.n
    · obtain ⟨r, e, k⟩ := c_wrong h (f := 2) (fi := 2) (by decide)
      refine Or.inr ⟨2, r, by rw [if_pos b], ?_, k⟩
      have e1 : (if zI m τ 5 < lo then (some (.inr ()) : Option (((Int32 × zGd × zMm) ⊕ (Nat × zGd × zMm)) ⊕ Unit)) else ((some (zI m τ 5)).bind fun v4 => if v4 ≤ hi then ((some (zI m τ 5)).bind fun v5 => (zrc g 3 (some τ) (f_X3_next g m (some τ))).bind fun (g6, m7) => some (.inl (.inl (v5, g6, m7)))) else (some (.inr ())))) = some (.inr ()) := by
        by_cases c : zI m τ 5 < lo
        · rw [if_pos c]
        · rw [if_neg c]
          dsimp only [Option.bind_some]
          rw [if_neg (fun y => by have := h2.mp y; have d : ¬ st.n < l := fun z => c (h1.mpr z); omega)]
      dsimp only [Option.bind_some] at e1 ⊢
      rw [e1]
      exact e (((Int32) × zGd × zMm) ⊕ (Nat × zGd × zMm)) (fun q g1 m1 => some (.inr (q, g1, m1)))
    · obtain ⟨m', e, f, kk⟩ := cS_next hb n300 h hv
      refine Or.inl ⟨m', zI m τ 5, by rw [if_neg b, hn], q, ?_, by omega, by omega, f, kk⟩
      rw [if_neg (fun y => b (Or.inl (h1.mp y))), if_pos (h2.mpr (by omega)), e_rc (ci := 3) (cS_k h), e]
      rfl
  · obtain ⟨r, e, k⟩ := c_wrong h (f := 1) (fi := 1) (by decide)
    refine Or.inr ⟨1, r, by rw [if_neg q], ?_, k⟩
    rw [if_neg (fun y => q (hs.mp y))]
    exact e (((Int32) × zGd × zMm) ⊕ (Nat × zGd × zMm)) (fun q g1 m1 => some (.inr (q, g1, m1)))
theorem cS_o (h : cS τ ta n tp kd g m st) {v : Int32} {o : Int} (hv : v.toInt = o) : cS τ ta n tp kd g (zsI m τ 6 v) (st.s, st.n, st.p, st.a, o) := by
  have f : tkF τ m (zsI m τ 6 v) := tkF.up
  obtain ⟨h1, ⟨h2, h3, h4, h5, h6, h7⟩, h8⟩ := h
  refine ⟨cTa_c h1 f (f_k (by omega)), ⟨by rw [f_k (by omega)]; exact h2, by rw [f_k (by omega)]; exact h3, by rw [f_k (by omega)]; exact h4, fun x => by rw [f_k (by omega)]; exact h5 x, by rw [f_s]; exact hv, by rw [f_k (by omega)]; exact h7⟩, cW_t h1 h8 f⟩
theorem c_opens (hb : ∀ i, 0 ≤ i → i < n → 0 ≤ tp i ∧ tp i ≤ 255) (n300 : n ≤ 300) (h : cS τ ta n tp kd g m st) (hv : aV n st) : (∃ s1 m', aOp (lx tp n) st = .inl s1 ∧ f_X3_opens g m (some τ) = some (.inl ((), g, m')) ∧ tkF τ m m' ∧ cS τ ta n tp kd g m' s1 ∧ s1.o = st.o + 1 ∧ st.o < 8 ∧ s1 = aNx (lx tp n) (st.s, st.n, st.p, st.a, st.o + 1)) ∨ ∃ r, aOp (lx tp n) st = .inr (3, st.p) ∧ f_X3_opens g m (some τ) = some (.inr r) ∧ cX τ g m 1 8 3 st.p r := by
  have ho := h.2.1.2.2.2.2.1
  have hs := i_eq ho (show (8 : Int32).toInt = 8 by decide)
  have hv8 := hv.2.2
  unfold aOp f_X3_opens
  rw [e_gi (ci := 3) (cS_k h)]
  dsimp only [Option.bind_some]
  by_cases q : st.o = 8
  · obtain ⟨r, e, k⟩ := c_wrong h (f := 3) (fi := 3) (by decide)
    refine Or.inr ⟨r, by rw [if_pos q], ?_, k⟩
    rw [if_pos (hs.mpr q)]
    exact e (((Unit) × zGd × zMm) ⊕ (Nat × zGd × zMm)) (fun q g1 m1 => some (.inr (q, g1, m1)))
  · have hA := cS_o h (v := zI m τ 6 + 1) (o := st.o + 1) (i_add ho (show (1 : Int32).toInt = 1 by decide) (by omega) (by omega))
    obtain ⟨m', e, f, k⟩ := cS_next hb n300 hA ⟨hv.1, hv.2.1, by show 0 ≤ st.o + 1 ∧ st.o + 1 ≤ 8; omega⟩
    refine Or.inl ⟨_, m', by rw [if_neg q], ?_, tkF.up.tr f, k, rfl, by omega, rfl⟩
    rw [if_neg (fun y => q (hs.mp y)), e_pi (ci := 3) (cS_k h) (cS_b h).1]
    dsimp only [Option.bind_some]
    rw [e_rc (ci := 3) (cS_k h), e]
    rfl
theorem c_shut (h : cS τ ta n tp kd g m st) (ho : 0 ≤ st.o ∧ st.o ≤ 8) : (zgi g m 3 6 (some τ)) = some (zI m τ 6) ∧ zpi g m 3 6 (some τ) (zI m τ 6 - 1) = some (zsI m τ 6 (zI m τ 6 - 1)) ∧ cS τ ta n tp kd g (zsI m τ 6 (zI m τ 6 - 1)) (aSh st) :=
  ⟨e_gi (ci := 3) (cS_k h), e_pi (ci := 3) (cS_k h) (cS_b h).1 _, cS_o h (i_sub h.2.1.2.2.2.2.1 (show (1 : Int32).toInt = 1 by decide) (by omega) (by omega))⟩
/-- the number of a name -/
theorem c_nameNow (h : cS τ ta n tp kd g m st) : f_X3_nameNow g m (some τ) = some (Int32.ofInt (aNm st.s)) := by
  obtain ⟨a, a1, a2, a3, a4⟩ := h.2.2.2.2.1
  have hs := h.2.1.2.2.1
  have loop : ∀ (k F j : Nat) (v : Int32), v.toInt = (j : Int) → j + k = 7 → k < F → (∀ i : Nat, i < j → cNd.getD i 0 ≠ st.s) → zLoop (b_X3_nameNow_2 g m (some τ)) F v = some (if aNm st.s = -1 then .inr () else .inl (Int32.ofInt (aNm st.s))) := by
    intro k
    induction k with
    | zero =>
      intro F j v hv hj hF hall
      obtain ⟨F, rfl⟩ : ∃ F', F = F' + 1 := ⟨F - 1, by omega⟩
      have hj : j = 7 := by omega
      subst hj
      have e0 := hall 0 (by omega)
      have e1 := hall 1 (by omega)
      have e2 := hall 2 (by omega)
      have e3 := hall 3 (by omega)
      have e4 := hall 4 (by omega)
      have e5 := hall 5 (by omega)
      have e6 := hall 6 (by omega)
      have hm : aNm st.s = -1 := by
        unfold aNm
        rw [if_neg (fun y => e0 y.symm), if_neg (fun y => e1 y.symm), if_neg (fun y => e2 y.symm), if_neg (fun y => e3 y.symm), if_neg (fun y => e4 y.symm), if_neg (fun y => e5 y.symm), if_neg (fun y => e6 y.symm)]
      rw [if_pos hm]
      refine zLoop_l ?_
      unfold b_X3_nameNow_2
      rw [a1, e_alen a3 (by omega)]
      dsimp only [Option.bind_some]
      rw [if_pos ((i_le (show (Int32.ofNat 7).toInt = 7 by decide) hv).mpr (by omega))]
    | succ k ih =>
      intro F j v hv hj hF hall
      obtain ⟨F, rfl⟩ : ∃ F', F = F' + 1 := ⟨F - 1, by omega⟩
      have hd := a4 j (by omega)
      have pre : b_X3_nameNow_2 g m (some τ) v = if zI m a j = zI m τ 4 then some (.inl (.inl v)) else some (.inr (v + 1)) := by
        unfold b_X3_nameNow_2
        rw [a1, e_alen a3 (by omega)]
        dsimp only [Option.bind_some]
        rw [if_neg (fun y => by have := (i_le (show (Int32.ofNat 7).toInt = 7 by decide) hv).mp y; omega), e_ald a3 hv (by omega) (by omega), Int.toNat_natCast]
        dsimp only [Option.bind_some]
        rw [e_gi (ci := 3) (cS_k h)]
        rfl
      have hq := i_eq hd hs
      by_cases c : zI m a j = zI m τ 4
      · have hj2 := hq.mp c
        rw [if_pos c] at pre
        have key : ∀ i : Fin 7, aNm (cNd.getD i.val 0) = ((i.val : Nat) : Int) := by decide
        have hk := key ⟨j, by omega⟩
        have hm : aNm st.s = (j : Int) := by rw [← hj2]; exact hk
        rw [zLoop_l pre, if_neg (by omega), hm, ← hv, Int32.ofInt_toInt]
      · rw [if_neg c] at pre
        rw [zLoop_r pre]
        refine ih F (j + 1) (v + 1) (by rw [i_add hv (show (1 : Int32).toInt = 1 by decide) (by omega) (by omega)]; omega) (by omega) (by omega) (fun i hi => ?_)
        by_cases hij : i = j
        · subst hij; exact fun y => c (hq.mpr y)
        · exact hall i (by omega)
  unfold f_X3_nameNow
  rw [loop 7 zFuel 0 0 (by decide) (by omega) (by unfold zFuel; omega) (fun i hi => absurd hi (Nat.not_lt_zero _))]
  by_cases q : aNm st.s = -1
  · rw [if_pos q, q]; rfl
  · rw [if_neg q]; rfl
theorem c_mayName (h : cS τ ta n tp kd g m st) {k : Int} (k0 : 0 ≤ k) (k6 : k ≤ 6) : f_X3_mayName g m (some τ) (Int32.ofInt k) = some (if aMy kd k = true then 1 else 0) := by
  have hk : (Int32.ofInt k).toInt = k := Int32.toInt_ofInt_of_le (by omega) (by omega)
  have h5 := i_lt hk (show (5 : Int32).toInt = 5 by decide)
  have e5 := i_eq hk (show (5 : Int32).toInt = 5 by decide)
  have e200 := i_eq h.2.1.2.2.2.2.2 (show (200 : Int32).toInt = 200 by decide)
  unfold f_X3_mayName aMy
  simp only [decide_eq_true_eq]
  by_cases c : k < 5
  · rw [if_pos (h5.mpr c), if_pos (Or.inl c)]
  · rw [if_neg (fun y => c (h5.mp y))]
    by_cases d : k = 5
    · rw [if_pos (e5.mpr d)]
      dsimp only [Option.bind_some]
      rw [e_gi (ci := 3) (cS_k h)]
      dsimp only [Option.bind_some]
      by_cases e : kd = 200
      · rw [if_pos (e200.mpr e), if_pos (Or.inr (Or.inl ⟨d, e⟩))]; rfl
      · rw [if_neg (fun y => e (e200.mp y)), if_neg (by omega)]; rfl
    · rw [if_neg (fun y => d (e5.mp y))]
      dsimp only [Option.bind_some]
      rw [e_gi (ci := 3) (cS_k h)]
      dsimp only [Option.bind_some]
      by_cases e : kd = 200
      · rw [if_pos (e200.mpr e), if_neg (by omega)]; rfl
      · rw [if_neg (fun y => e (e200.mp y)), if_pos (Or.inr (Or.inr ⟨d, e⟩))]; rfl
end
