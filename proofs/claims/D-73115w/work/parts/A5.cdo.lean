/-! COMPONENT READING: a doing is read -/
set_option maxRecDepth 100000
/-- a doing's cell: its word, its numbers, its clause -/
def tDo (g : zGd) (m : zMm) (q : Nat) (w a b i : Int) : Prop := (zK g q).1 = 17 ∧ (zI m q 0).toInt = w ∧ (zI m q 1).toInt = a ∧ (zI m q 2).toInt = b ∧ (zI m q 3).toInt = i ∧ (w = 207 → a ≤ 60)
abbrev aDX : Type := ((Int × Int) × aSt) ⊕ aF
def dIn (τ ta : Nat) (n : Int) (tp : Int → Int) (kd : Int) (g : zGd) (m : zMm) (st : aSt) (i : Int) (X : aDX) (Y : Option tRes) : Prop :=
  ∃ a b st' q g' m', X = .inl ((a, b), st') ∧ Y = some (.inl (some q, g', m')) ∧ cS τ ta n tp kd g' m' st' ∧ cG τ g m g' m' ∧ tDo g' m' q kd a b i ∧ (zZ g ≤ q ∧ q < zZ g') ∧ aV n st' ∧ st.p < st'.p ∧ st'.o = st.o ∧ tBd g g' 1
def dOut (τ : Nat) (n : Int) (g : zGd) (m : zMm) (st : aSt) (X : aDX) (Y : Option tRes) : Prop := ∃ fl pl r, X = .inr (fl, pl) ∧ Y = some (.inr r) ∧ cX τ g m 2 120 fl pl r ∧ st.p ≤ pl ∧ pl ≤ n
/-- a new doing, its last number read on the way -/
def fDn (g : zGd) (m : zMm) (a0 : Option Nat) (lo be : Int32) (pa pb : Int32 → Int32) (cl : Int32) : Option tRes :=
  (zgi (zgrow g (zSl 16) 17 0) (zfresh m (zZ g)) 3 7 a0).bind fun v15 =>
  zXd (zgrow g (zSl 16) 17 0) 3 a0 (f_X3_number (zgrow g (zSl 16) 17 0) (zfresh m (zZ g)) a0 lo be) (fun (q19, g20, m21) => some (.inr (q19, g20, m21))) fun (v16, g17, m18) =>
  zob (some (zZ g)) ((f_X16_init g17 m18 (some (zZ g)) v15 (pa v16) (pb v16) cl).bind fun m22 =>
  some (.inl (some (zZ g), g17, m22)))
section
variable {τ ta : Nat} {n kd : Int} {tp : Int → Int}
theorem cS_kd {g : zGd} {m : zMm} {st : aSt} (h : cS τ ta n tp kd g m st) {v : Int32} {k : Int} (hv : v.toInt = k) : cS τ ta n tp k g (zsI m τ 7 v) st := by
  have f : tkF τ m (zsI m τ 7 v) := tkF.up
  obtain ⟨h1, ⟨h2, h3, h4, h5, h6, h7⟩, h8⟩ := h
  refine ⟨cTa_c h1 f (f_k (by omega)), ⟨by rw [f_k (by omega)]; exact h2, by rw [f_k (by omega)]; exact h3, by rw [f_k (by omega)]; exact h4, fun x => by rw [f_k (by omega)]; exact h5 x, by rw [f_k (by omega)]; exact h6, by rw [f_s]; exact hv⟩, cW_t h1 h8 f⟩
theorem t_dnew (hb : ∀ i, 0 ≤ i → i < n → 0 ≤ tp i ∧ tp i ≤ 255) (n300 : n ≤ 300) {g : zGd} {m : zMm} {st : aSt} (h0 : cS τ ta n tp kd g m st) (hv : aV n st) {lo be cl : Int32} {lo' be' cl' : Int} (e3 : lo.toInt = lo') (e4 : be.toInt = be') (e5 : cl.toInt = cl') (pa pb : Int32 → Int32) (h7 : kd = 207 → ∀ v : Int32, v.toInt ≤ be' → (pa v).toInt ≤ 60) :
    (∃ (v : Int32) (g' : zGd) (m' : zMm), aNu (lx tp n) lo' be' st = .inl (v.toInt, aNx (lx tp n) st) ∧ st.s = 300 ∧ fDn g m (some τ) lo be pa pb cl = some (.inl (some (zZ g), g', m')) ∧ cS τ ta n tp kd g' m' (aNx (lx tp n) st) ∧ cG τ g m g' m' ∧ tDo g' m' (zZ g) kd (pa v).toInt (pb v).toInt cl' ∧ zZ g < zZ g' ∧ tBd g g' 1) ∨
    ∃ f r, aNu (lx tp n) lo' be' st = .inr (f, st.p) ∧ fDn g m (some τ) lo be pa pb cl = some (.inr r) ∧ cX τ g m 2 120 f st.p r := by
  have b0 := cS_b h0
  obtain ⟨nS, nG, nB⟩ := t_new (k := zSl 16) (t := 17) (len := 0) h0 (by decide)
  unfold fDn
  obtain ⟨z, ez⟩ : ∃ z, z = zZ g := ⟨_, rfl⟩
  obtain ⟨G, eG⟩ : ∃ G, G = zgrow g (zSl 16) 17 0 := ⟨_, rfl⟩
  obtain ⟨A, eA⟩ : ∃ A, A = zfresh m z := ⟨_, rfl⟩
  rw [← ez, ← eG, ← eA] at nS nG
  rw [← eG] at nB
  rw [← ez, ← eG, ← eA]
  have kG := cS_k nS
  have Gz : (zK G z).1 = 16 + 1 := by rw [eG, ez, zgrow_Ks]
  have GZ : zZ G = z + 1 := by rw [eG, ez, zgrow_Z]
  have hBG : zB G ≤ z := by rw [nG.1.1]; omega
  have hkd := nS.2.1.2.2.2.2.2
  rw [e_gi (ci := 3) kG, Option.bind_some]
  rcases c_number hb n300 nS hv e3 e4 with ⟨m1, v, x1, x2, x3, x4, x5, x6, x7⟩ | ⟨f, r, x1, x2, x3⟩
  · left
    obtain ⟨M, eM⟩ : ∃ M, M = zsI (zsI (zsI (zsI m1 z 0 (zI A τ 7)) z 1 (pa v)) z 2 (pb v)) z 3 cl := ⟨_, rfl⟩
    have sM : tSm (fun q => q ≠ z) m1 M := fun q hq => by
      rw [eM, zsI_I, zsI_J, zsI_R, zsI_I, zsI_J, zsI_R, zsI_I, zsI_J, zsI_R, zsI_I, zsI_J, zsI_R, zup_r _ _ hq, zup_r _ _ hq, zup_r _ _ hq, zup_r _ _ hq]; exact ⟨rfl, rfl, rfl⟩
    obtain ⟨wS, wG, wF⟩ := t_wri x7 (nG.tr (cG.tk x6)) (by omega) b0.2.1 b0.2.2.1 b0.2.2.2 sM
    have hx : f_X16_init G m1 (some z) (zI A τ 7) (pa v) (pb v) cl = some M := by
      show ((f_J10_init G m1 (some z)).bind fun _ => (zpi G m1 16 0 (some z) (zI A τ 7)).bind fun m1 => (zpi G m1 16 1 (some z) (pa v)).bind fun m2 => (zpi G m2 16 2 (some z) (pb v)).bind fun m3 => (zpi G m3 16 3 (some z) cl).bind fun m4 => some m4) = _
      rw [show f_J10_init G m1 (some z) = some () from rfl, Option.bind_some, e_pi (ci := 16) Gz hBG, Option.bind_some, e_pi (ci := 16) Gz hBG, Option.bind_some, e_pi (ci := 16) Gz hBG, Option.bind_some, e_pi (ci := 16) Gz hBG, eM]; rfl
    refine ⟨v, G, M, x1, x2, ?_, wS, wG, ⟨by rw [Gz], ?_, ?_, ?_, ?_, fun y => h7 y v x5⟩, by omega, nB⟩
    · rw [e_xe x3, e_xl (ci := 3) kG]
      show ((f_X16_init G m1 (some z) (zI A τ 7) (pa v) (pb v) cl).bind _) = _
      rw [hx]; rfl
    · rw [eM, zsI_I, zup_k _ _ (by omega), zsI_I, zup_k _ _ (by omega), zsI_I, zup_k _ _ (by omega), zsI_I, zup_s]; exact hkd
    · rw [eM, zsI_I, zup_k _ _ (by omega), zsI_I, zup_k _ _ (by omega), zsI_I, zup_s]
    · rw [eM, zsI_I, zup_k _ _ (by omega), zsI_I, zup_s]
    · rw [eM, zsI_I, zup_s]; exact e5
  · right
    refine ⟨f, r, x1, ?_, cX.tr nG nB.1 nB.2 x3 (by omega) (by omega)⟩
    rw [e_xe x2, e_xr (ci := 3) kG x3.1]
theorem t_two (hb : ∀ i, 0 ≤ i → i < n → 0 ≤ tp i ∧ tp i ≤ 255) (n300 : n ≤ 300) {g : zGd} {m : zMm} {st : aSt} (h0 : cS τ ta n tp kd g m st) (hv : aV n st) {hi w lo be cl : Int32} {hi' w' lo' be' cl' : Int} (e1 : hi.toInt = hi') (e2 : w.toInt = w') (w301 : w' ≠ 301) (k207 : kd ≠ 207) (e3 : lo.toInt = lo') (e4 : be.toInt = be') (e5 : cl.toInt = cl') : dIn τ ta n tp kd g m st cl' (aTwo (lx tp n) hi' w' lo' be' st) (f_X3_two g m (some τ) hi w lo be cl) ∨ dOut τ n g m st (aTwo (lx tp n) hi' w' lo' be' st) (f_X3_two g m (some τ) hi w lo be cl) := by
  have kτ := cS_k h0
  rcases c_number hb n300 h0 hv (lo := 0) (hi := hi) (l := 0) (k := hi') (by decide) e1 with ⟨m1, v, x1, x2, x3, x4, x5, x6, x7⟩ | ⟨f, r, x1, x2, x3⟩
  · obtain ⟨v1, v2, v3⟩ := vN (tp := tp) hv
    have hpa := hv.2.1 (by omega)
    obtain ⟨s1, es1⟩ : ∃ s1, s1 = aNx (lx tp n) st := ⟨_, rfl⟩
    rw [← es1] at x1 x7 v1 v2 v3
    have C1 := cG.tk (g := g) x6
    have k1 := cS_k x7
    rcases c_want hb n300 x7 v1 e2 with ⟨m2, y1, y2, y3, y4, y5⟩ | ⟨r, y1, y2, y3⟩
    · have hpa1 := v1.2.1 (by omega)
      obtain ⟨u1, u2, u3⟩ := vN (tp := tp) v1
      obtain ⟨s2, es2⟩ : ∃ s2, s2 = aNx (lx tp n) s1 := ⟨_, rfl⟩
      rw [← es2] at y1 y5 u1 u2 u3
      have C2 := C1.tr (cG.tk (g := g) y4)
      have pre : f_X3_two g m (some τ) hi w lo be cl = fDn g m2 (some τ) lo be (fun _ => v) (fun v => v) cl := by
        unfold f_X3_two
        rw [e_xe x3, e_xl (ci := 3) kτ]
        show zXd g 3 (some τ) (f_X3_want g m1 (some τ) w) _ _ = _
        rw [e_xe y3, e_xl (ci := 3) k1]
        rfl
      have preA : ∀ b s3, aNu (lx tp n) lo' be' s2 = .inl (b, s3) → aTwo (lx tp n) hi' w' lo' be' st = .inl ((v.toInt, b), s3) := fun b s3 hX => by
        unfold aTwo
        rw [x1]
        dsimp only
        rw [y1]
        dsimp only
        rw [hX]
      have preF : ∀ f, aNu (lx tp n) lo' be' s2 = .inr f → aTwo (lx tp n) hi' w' lo' be' st = .inr f := fun f hX => by
        unfold aTwo
        rw [x1]
        dsimp only
        rw [y1]
        dsimp only
        rw [hX]
      rcases t_dnew hb n300 y5 u1 e3 e4 e5 (fun _ => v) (fun v => v) (fun y => absurd y k207) with ⟨v', g', m', z1, z2, z3, z4, z5, z6, z7, z8⟩ | ⟨f, r, z1, z2, z3⟩
      · have hpa2 := u1.2.1 (by omega)
        obtain ⟨q1, q2, q3⟩ := vN (tp := tp) u1
        exact Or.inl ⟨v.toInt, v'.toInt, _, zZ g, g', m', preA _ _ z1, pre.trans z3, z4, C2.tr z5, z6, ⟨Nat.le_refl _, z7⟩, q1, by omega, by omega, z8⟩
      · exact Or.inr ⟨f, s2.p, r, preF _ z1, pre.trans z2, cX.tr C2 (c1 := 0) (d1 := 0) (by omega) (by omega) z3 (by omega) (by omega), by omega, by have := u1.1; omega⟩
    · refine Or.inr ⟨1, s1.p, r, ?_, ?_, cX.tr C1 (c1 := 0) (d1 := 0) (by omega) (by omega) y3 (by omega) (by omega), by omega, by have := v1.1; omega⟩
      · unfold aTwo
        rw [x1]
        dsimp only
        rw [y1]
      · unfold f_X3_two
        rw [e_xe x3, e_xl (ci := 3) kτ]
        show zXd g 3 (some τ) (f_X3_want g m1 (some τ) w) _ _ = _
        rw [e_xe y2, e_xr (ci := 3) k1 y3.1]
  · refine Or.inr ⟨f, st.p, r, ?_, ?_, x3.wk (by omega) (by omega), by omega, by have := hv.1; omega⟩
    · unfold aTwo
      rw [x1]
    · unfold f_X3_two
      rw [e_xe x2, e_xr (ci := 3) kτ x3.1]
theorem t_doing (hb : ∀ i, 0 ≤ i → i < n → 0 ≤ tp i ∧ tp i ≤ 255) (n300 : n ≤ 300) {g : zGd} {m : zMm} {st : aSt} (h0 : cS τ ta n tp kd g m st) (hv : aV n st) {cl : Int32} {cl' : Int} (e5 : cl.toInt = cl') : dIn τ ta n tp kd g m st cl' (aDo (lx tp n) kd st) (f_X3_doing g m (some τ) cl) ∨ dOut τ n g m st (aDo (lx tp n) kd st) (f_X3_doing g m (some τ) cl) := by
  have kτ := cS_k h0
  have v7 := h0.2.1.2.2.2.2.2
  have q202 := i_eq v7 (show (202 : Int32).toInt = 202 by decide)
  have q204 := i_eq v7 (show (204 : Int32).toInt = 204 by decide)
  have q206 := i_eq v7 (show (206 : Int32).toInt = 206 by decide)
  have q207 := i_eq v7 (show (207 : Int32).toInt = 207 by decide)
  have two : ∀ (hi w lo be : Int32) (hi' w' lo' be' : Int), hi.toInt = hi' → w.toInt = w' → w' ≠ 301 → kd ≠ 207 → lo.toInt = lo' → be.toInt = be' → aDo (lx tp n) kd st = aTwo (lx tp n) hi' w' lo' be' st → f_X3_doing g m (some τ) cl = zXd g 3 (some τ) (f_X3_two g m (some τ) hi w lo be cl) (fun (q5, g6, m7) => some (.inr (q5, g6, m7))) (fun (r2, g3, m4) => some (.inl (r2, g3, m4))) → dIn τ ta n tp kd g m st cl' (aDo (lx tp n) kd st) (f_X3_doing g m (some τ) cl) ∨ dOut τ n g m st (aDo (lx tp n) kd st) (f_X3_doing g m (some τ) cl) := by
    intro hi w lo be hi' w' lo' be' h1 h2 h3 h6 h4 h5 eA eC
    rcases t_two hb n300 h0 hv h1 h2 h3 h6 h4 h5 e5 with ⟨a, b, st', q, g', m', d1, d2, d3⟩ | ⟨fl, pl, r, d1, d2, d3, d4⟩
    · exact Or.inl ⟨a, b, st', q, g', m', eA.trans d1, by rw [eC, e_xe d2, e_xl (ci := 3) kτ], d3⟩
    · exact Or.inr ⟨fl, pl, r, eA.trans d1, by rw [eC, e_xe d2, e_xr (ci := 3) kτ d3.1], d3, d4⟩
  have sin : ∀ (lo be : Int32) (lo' be' : Int), lo.toInt = lo' → be.toInt = be' → (kd = 207 → be' ≤ 60) → aDo (lx tp n) kd st = aSin (lx tp n) lo' be' st → f_X3_doing g m (some τ) cl = fDn g m (some τ) lo be (fun v => v) (fun _ => -1) cl → dIn τ ta n tp kd g m st cl' (aDo (lx tp n) kd st) (f_X3_doing g m (some τ) cl) ∨ dOut τ n g m st (aDo (lx tp n) kd st) (f_X3_doing g m (some τ) cl) := by
    intro lo be lo' be' h1 h2 h3 eA eC
    rcases t_dnew hb n300 h0 hv h1 h2 e5 (fun v => v) (fun _ => -1) (fun y v hv => by have := h3 y; omega) with ⟨v', g', m', z1, z2, z3, z4, z5, z6, z7, z8⟩ | ⟨f, r, z1, z2, z3⟩
    · have hpa := hv.2.1 (by omega)
      obtain ⟨q1, q2, q3⟩ := vN (tp := tp) hv
      have z6 : tDo g' m' (zZ g) kd v'.toInt (-1) cl' := z6
      exact Or.inl ⟨v'.toInt, -1, _, zZ g, g', m', by rw [eA]; unfold aSin; rw [z1], eC.trans z3, z4, z5, z6, ⟨Nat.le_refl _, z7⟩, q1, by omega, q3, z8⟩
    · exact Or.inr ⟨f, st.p, r, by rw [eA]; unfold aSin; rw [z1], eC.trans z2, z3, by omega, by have := hv.1; omega⟩
  by_cases w2 : kd = 202
  · refine two 9 208 0 99 9 208 0 99 (by decide) (by decide) (by omega) (by omega) (by decide) (by decide) ?_ ?_
    · unfold aDo; rw [if_pos w2]
    · unfold f_X3_doing; rw [e_gi (ci := 3) kτ, Option.bind_some, if_pos (q202.mpr w2)]
  by_cases w4 : kd = 204
  · refine two 5 209 1 99 5 209 1 99 (by decide) (by decide) (by omega) (by omega) (by decide) (by decide) ?_ ?_
    · unfold aDo; rw [if_neg w2, if_pos w4]
    · unfold f_X3_doing; rw [e_gi (ci := 3) kτ, Option.bind_some, if_neg (fun y => w2 (q202.mp y)), if_pos (q204.mpr w4)]
  by_cases w6 : kd = 206
  · refine two 5 210 0 5 5 210 0 5 (by decide) (by decide) (by omega) (by omega) (by decide) (by decide) ?_ ?_
    · unfold aDo; rw [if_neg w2, if_neg w4, if_pos w6]
    · unfold f_X3_doing; rw [e_gi (ci := 3) kτ, Option.bind_some, if_neg (fun y => w2 (q202.mp y)), if_neg (fun y => w4 (q204.mp y)), if_pos (q206.mpr w6)]
  by_cases w7 : kd = 207
  · refine sin 1 60 1 60 (by decide) (by decide) (by omega) ?_ ?_
    · unfold aDo; rw [if_neg w2, if_neg w4, if_neg w6, if_pos w7]
    · unfold f_X3_doing; rw [e_gi (ci := 3) kτ, Option.bind_some, if_neg (fun y => w2 (q202.mp y)), if_neg (fun y => w4 (q204.mp y)), if_neg (fun y => w6 (q206.mp y)), if_pos (q207.mpr w7)]; rfl
  · refine sin 0 5 0 5 (by decide) (by decide) (by omega) ?_ ?_
    · unfold aDo; rw [if_neg w2, if_neg w4, if_neg w6, if_neg w7]
    · unfold f_X3_doing; rw [e_gi (ci := 3) kτ, Option.bind_some, if_neg (fun y => w2 (q202.mp y)), if_neg (fun y => w4 (q204.mp y)), if_neg (fun y => w6 (q206.mp y)), if_neg (fun y => w7 (q207.mp y))]; rfl
/-! the codes are good -/
def aGd (kd : Int) (L : aC) : Prop := ∀ p ∈ L, (p.1 = 0 → 0 ≤ p.2 ∧ p.2 ≤ 9999) ∧ (p.1 = 1 → p.2 ≠ 6 - (kd - 200))
def aFg (kd : Int) (f : aFn) : Prop := ∀ st L s', f st = some (.inl (L, s')) → aGd kd L
theorem aGd_n {kd : Int} : aGd kd [] := fun p hp => absurd hp List.not_mem_nil
theorem aGd_a {kd : Int} {A B : aC} (h : aGd kd A) (k : aGd kd B) : aGd kd (A ++ B) := fun p hp => by
  rcases List.mem_append.mp hp with y | y
  · exact h p y
  · exact k p y
theorem aGd_o {kd o : Int} (h0 : o ≠ 0) (h1 : o ≠ 1) : aGd kd [(o, 0)] := fun p hp => by
  rw [List.mem_singleton.mp hp]
  exact ⟨fun y => absurd y h0, fun y => absurd y h1⟩
theorem aB_i {α β : Type} {x : α ⊕ aF} {k : α → Option (β ⊕ aF)} {y : β} (h : aB x k = some (.inl y)) : ∃ a, x = .inl a ∧ k a = some (.inl y) := by
  cases x with
  | inl a => exact ⟨a, rfl, h⟩
  | inr f => cases h
theorem aFg_ch {lx : Int → Int × Int × Int × Int} {kd c1 c2 o1 o2 : Int} {f : aFn} (hf : aFg kd f) (a0 : o1 ≠ 0 ∧ o1 ≠ 1) (b0 : o2 ≠ 0 ∧ o2 ≠ 1) : aFg kd (aCh lx c1 c2 o1 o2 f) := by
  intro st L s' h
  obtain ⟨r, h1, h⟩ := bind_z h
  obtain ⟨x, ex, h2⟩ := aB_i h
  obtain ⟨y, h3, h4⟩ := bind_z h2
  have loop : ∀ (F : Nat) (z w : aC × aSt), aGd kd z.1 → zLoop (aMo lx c1 c2 o1 o2 f) F z = some (.inr w) → aGd kd w.1 := by
    intro F
    induction F with
    | zero => intro z w _ e; cases e
    | succ F ih =>
      intro z w hz e
      rw [zLoop_s] at e
      by_cases hs : z.2.s = c1 ∨ z.2.s = c2
      · cases e3 : f (aNx lx z.2) with
        | none =>
          have : aMo lx c1 c2 o1 o2 f z = none := by unfold aMo; rw [if_pos hs, e3]; rfl
          rw [this] at e; cases e
        | some r =>
          cases r with
          | inr q' =>
            have : aMo lx c1 c2 o1 o2 f z = some (.inl (.inl q')) := by unfold aMo; rw [if_pos hs, e3]; rfl
            rw [this] at e; cases e
          | inl x =>
            have : aMo lx c1 c2 o1 o2 f z = some (.inr (z.1 ++ x.1 ++ [(if z.2.s = c1 then o1 else o2, 0)], x.2)) := by unfold aMo; rw [if_pos hs, e3]; rfl
            rw [this] at e
            refine ih _ _ (aGd_a (aGd_a hz (hf _ x.1 x.2 e3)) ?_) e
            by_cases c : z.2.s = c1
            · rw [if_pos c]; exact aGd_o a0.1 a0.2
            · rw [if_neg c]; exact aGd_o b0.1 b0.2
      · have : aMo lx c1 c2 o1 o2 f z = some (.inl (.inr z)) := by unfold aMo; rw [if_neg hs]
        rw [this] at e; cases e; exact hz
  cases y with
  | inl f' => cases h4
  | inr z =>
    cases h4
    exact loop _ _ _ (hf st x.1 x.2 (by rw [h1, ex])) h3
theorem aUn_g (s : Int) : aUn s ≠ 0 ∧ aUn s ≠ 1 := by
  unfold aUn
  repeat' split
  all_goals omega
theorem aCm_g {s : Int} : aCm s ≠ 0 ∧ aCm s ≠ 1 := by
  unfold aCm
  repeat' split
  all_goals omega
theorem aTk_g {lx : Int → Int × Int × Int × Int} {kd : Int} (hk : kd = 200 ∨ kd = 201) : ∀ d : Nat, aFg kd (aTk lx kd d).1 ∧ aFg kd (aTk lx kd d).2.1 ∧ aFg kd (aTk lx kd d).2.2.1 ∧ aFg kd (aTk lx kd d).2.2.2.1 ∧ aFg kd (aTk lx kd d).2.2.2.2.1 ∧ aFg kd (aTk lx kd d).2.2.2.2.2.1 ∧ aFg kd (aTk lx kd d).2.2.2.2.2.2
  | 0 => by
    refine ⟨?_, ?_, ?_, ?_, ?_, ?_, ?_⟩ <;> (intro st q s h; cases h)
  | d + 1 => by
    obtain ⟨i1, i2, i3, i4, i5, i6, i7⟩ := aTk_g hk d
    refine ⟨?_, aFg_ch i1 (by omega) (by omega), aFg_ch i2 (by omega) (by omega), ?_, ?_, aFg_ch i5 (by omega) (by omega), aFg_ch i6 (by omega) (by omega)⟩
    · intro st L s h
      have h : aAsk lx (aTk lx kd d) st = some (.inl (L, s)) := h
      unfold aAsk at h
      by_cases h2 : st.s = 219
      · rw [if_pos h2] at h
        obtain ⟨s1, -, h⟩ := aB_i h
        obtain ⟨r, h1, h⟩ := bind_z h
        obtain ⟨x, ex, h⟩ := aB_i h
        cases h
        exact aGd_a (i1 s1 x.1 x.2 (by rw [h1, ex])) (aGd_o (by omega) (by omega))
      · rw [if_neg h2] at h
        obtain ⟨r, h1, h⟩ := bind_z h
        obtain ⟨x, ex, h⟩ := aB_i h
        by_cases h3 : aCm x.2.s = -1
        · rw [if_pos h3] at h; cases h
        · rw [if_neg h3] at h
          obtain ⟨r2, h4, h⟩ := bind_z h
          obtain ⟨y, ey, h⟩ := aB_i h
          cases h
          exact aGd_a (aGd_a (i7 st x.1 x.2 (by rw [h1, ex])) (i7 _ y.1 y.2 (by rw [h4, ey]))) (aGd_o aCm_g.1 aCm_g.2)
    · intro st L s h
      have h : aChoice lx (aTk lx kd d) st = some (.inl (L, s)) := h
      unfold aChoice at h
      obtain ⟨s1, -, h⟩ := aB_i h
      obtain ⟨r, h1, h⟩ := bind_z h
      obtain ⟨x, ex, h⟩ := aB_i h
      obtain ⟨s2, -, h⟩ := aB_i h
      obtain ⟨r2, h2, h⟩ := bind_z h
      obtain ⟨y, ey, h⟩ := aB_i h
      obtain ⟨s3, -, h⟩ := aB_i h
      obtain ⟨r3, h3, h⟩ := bind_z h
      obtain ⟨z, ez, h⟩ := aB_i h
      obtain ⟨s4, -, h⟩ := aB_i h
      cases h
      exact aGd_a (aGd_a (aGd_a (i3 s1 x.1 x.2 (by rw [h1, ex])) (i7 s2 y.1 y.2 (by rw [h2, ey]))) (i7 s3 z.1 z.2 (by rw [h3, ez]))) (aGd_o (by omega) (by omega))
    · intro st L s h
      have h : aOne lx kd (aTk lx kd d) st = some (.inl (L, s)) := h
      unfold aOne at h
      by_cases c1 : st.s = 300
      · rw [if_pos c1] at h
        obtain ⟨x, ex, h⟩ := aB_i h
        cases h
        unfold aNu at ex
        rw [if_pos c1] at ex
        by_cases b : st.n < 0 ∨ 9999 < st.n
        · rw [if_pos b] at ex; cases ex
        · rw [if_neg b] at ex
          cases ex
          intro p hp
          rw [List.mem_singleton.mp hp]
          exact ⟨fun _ => by show 0 ≤ st.n ∧ st.n ≤ 9999; omega, fun y => by have y : (0 : Int) = 1 := y; omega⟩
      rw [if_neg c1] at h
      by_cases c2 : st.s = 213
      · rw [if_pos c2] at h; exact i4 st L s h
      rw [if_neg c2] at h
      by_cases c3 : aNm st.s = -1
      · rw [if_pos c3] at h
        by_cases c4 : st.s = 40
        · rw [if_pos c4] at h
          obtain ⟨s1, -, h⟩ := aB_i h
          obtain ⟨r, h1, h⟩ := bind_z h
          obtain ⟨x, ex, h⟩ := aB_i h
          obtain ⟨s4, -, h⟩ := aB_i h
          cases h
          exact i7 s1 x.1 x.2 (by rw [h1, ex])
        · rw [if_neg c4] at h
          by_cases c5 : st.s = 45 ∨ st.s = 211 ∨ st.s = 212
          · rw [if_pos c5] at h
            obtain ⟨s1, -, h⟩ := aB_i h
            obtain ⟨r, h1, h⟩ := bind_z h
            obtain ⟨x, ex, h⟩ := aB_i h
            cases h
            exact aGd_a (i5 s1 x.1 x.2 (by rw [h1, ex])) (aGd_o (aUn_g _).1 (aUn_g _).2)
          · rw [if_neg c5] at h; cases h
      · rw [if_neg c3] at h
        by_cases c6 : aMy kd (aNm st.s) = true
        · rw [if_pos c6] at h
          cases h
          intro p hp
          rw [List.mem_singleton.mp hp]
          unfold aMy at c6
          have c6 := of_decide_eq_true c6
          exact ⟨fun y => by have y : (1 : Int) = 0 := y; omega, fun _ => by show aNm st.s ≠ 6 - (kd - 200); omega⟩
        · rw [if_neg c6] at h; cases h
end
