/-! COMPONENT READING: a choice is read -/
set_option maxRecDepth 100000
section
variable {τ ta : Nat} {n kd : Int} {tp : Int → Int} {d : Nat}
/-- a word wanted, then on -/
theorem t_want (hb : ∀ i, 0 ≤ i → i < n → 0 ≤ tp i ∧ tp i ≤ 255) (n300 : n ≤ 300) {g0 g : zGd} {m0 m : zMm} {st0 st : aSt} {k e : Int} (h : cS τ ta n tp kd g m st) (hv : aV n st) (h0 : cG τ g0 m0 g m) (hk : tBd g0 g k) (hp : st0.p ≤ st.p) (he : k + 1 ≤ 50 * (st.p - st0.p) + e) {c : Int32} {ci : Int} (hc : c.toInt = ci) (h301 : ci ≠ 301) {X : Option aX} {Y : Option tRes} (hX : ∀ q, aWt (lx tp n) ci st = .inr q → X = some (.inr q)) (hY : ∀ r, (zK r.2.1 r.1).1 = 6 → f_X3_want g m (some τ) c = some (.inr r) → Y = some (.inr r)) :
    (∃ m', aWt (lx tp n) ci st = .inl (aNx (lx tp n) st) ∧ f_X3_want g m (some τ) c = some (.inl ((), g, m')) ∧ cG τ g m g m' ∧ cS τ ta n tp kd g m' (aNx (lx tp n) st) ∧ aV n (aNx (lx tp n) st) ∧ st.p < (aNx (lx tp n) st).p ∧ (aNx (lx tp n) st).o = st.o) ∨ tOut e τ g0 m0 st0 X Y := by
  rcases c_want hb n300 h hv hc with ⟨m', w1, w2, w3, w4, w5⟩ | ⟨r, w1, w2, w3⟩
  · obtain ⟨v1, v2, v3⟩ := vN (tp := tp) hv
    have := hv.2.1 (by omega)
    exact Or.inl ⟨m', w1, w3, cG.tk w4, w5, v1, by omega, v3⟩
  · exact Or.inr ⟨1, st.p, r, hX _ w1, hY r w3.1 w2, cX.tr h0 hk.1 hk.2 w3 (by omega) (by omega), hp⟩
theorem t_choice (hb : ∀ i, 0 ≤ i → i < n → 0 ≤ tp i ∧ tp i ≤ 255) (n300 : n ≤ 300) {rc : tTb} {rec : aTb} (hE : tFn vA (fun o => dO o + 6) 2 35 (fun o => dO o + 7 ≤ d) τ ta n tp kd rc.2.2.1 rec.2.2.1) (hS : tFn vS (fun o => dO o + 3) 30 20 (fun o => dO o + 4 ≤ d) τ ta n tp kd rc.2.2.2.2.2.2 rec.2.2.2.2.2.2) : ∀ g m st, cS τ ta n tp kd g m st → aV n st → st.s = 213 → dO st.o + 1 ≤ d + 1 → tIn vS (dO st.o + 1) 40 τ ta n tp kd g m st (aChoice (lx tp n) rec st) (q_X3_choice rc g m (some τ)) ∨ tOut 10 τ g m st (aChoice (lx tp n) rec st) (q_X3_choice rc g m (some τ)) := by
  intro g m st h0 hv hs hN
  have b0 := cS_b h0
  have kτ := cS_k h0
  have hpa : st.p < st.a := hv.2.1 (by omega)
  unfold aChoice q_X3_choice
  rcases c_opens hb n300 h0 hv with ⟨s1, m1, o1, o2, o3, o4, o5, o6, o7⟩ | ⟨r, o1, o2, o3⟩
  · obtain ⟨t1, t2, t3⟩ := vN (tp := tp) (n := n) (st := (st.s, st.n, st.p, st.a, st.o + 1)) ⟨hv.1, hv.2.1, by show 0 ≤ st.o + 1 ∧ st.o + 1 ≤ 8; have := hv.2.2; omega⟩
    rw [← o7] at t1 t2 t3
    have t2 : st.a ≤ s1.p := t2
    have hdo := dO_s hv.2.2.1 o6
    rw [o1, e_xe o2, e_xl (ci := 3) kτ]
    have C1 := cG.tk (g := g) o3
    have B1 : tBd g g 0 := tBd.rf (Int.le_refl 0)
    have k1 := cS_k o4
    show tIn vS _ _ τ ta n tp kd g m st ((rec.2.2.1 s1).bind _) (zXd g 3 (some τ) (rc.2.2.1 g m1 (some τ)) _ _) ∨ tOut _ τ g m st ((rec.2.2.1 s1).bind _) (zXd g 3 (some τ) (rc.2.2.1 g m1 (some τ)) _ _)
    rcases hE g m1 s1 o4 t1 (by show dO s1.o + 7 ≤ d; rw [o5]; omega) with ⟨L1, s2, p1, g2, m2, r1, r2, r3, r4, r5, r6, r7, r8, r9⟩ | ho
    · have k2 := cS_k r3
      have C2 := C1.tr r4
      have B2 := B1.tr r9 (Int.le_refl _)
      rw [r1, e_xe r2, e_xl (ci := 3) k1]
      show tIn vS _ _ τ ta n tp kd g m st (aB (aWt (lx tp n) 214 s2) _) (zXd g2 3 (some τ) (f_X3_want g2 m2 (some τ) 214) _ _) ∨ tOut _ τ g m st (aB (aWt (lx tp n) 214 s2) _) (zXd g2 3 (some τ) (f_X3_want g2 m2 (some τ) 214) _ _)
      refine (t_want hb n300 r3 r6 C2 B2 (by omega) (by omega) (c := (214 : Int32)) (ci := 214) (by decide) (by decide) (fun q hq => by rw [hq]; rfl) (fun r hr hq => by rw [e_xe hq, e_xr (ci := 3) k2 hr])).elim (fun ⟨m3, w1, w2, w3, w4, w5, w6, w7⟩ => ?_) Or.inr
      obtain ⟨s3, es3⟩ : ∃ s3, s3 = aNx (lx tp n) s2 := ⟨_, rfl⟩
      rw [← es3] at w1 w4 w5 w6 w7
      have C3 := C2.tr w3
      have k3 := cS_k w4
      rw [w1, e_xe w2, e_xl (ci := 3) k2]
      show tIn vS _ _ τ ta n tp kd g m st ((rec.2.2.2.2.2.2 s3).bind _) (zXd g2 3 (some τ) (rc.2.2.2.2.2.2 g2 m3 (some τ)) _ _) ∨ tOut _ τ g m st ((rec.2.2.2.2.2.2 s3).bind _) (zXd g2 3 (some τ) (rc.2.2.2.2.2.2 g2 m3 (some τ)) _ _)
      rcases hS g2 m3 s3 w4 w5 (by show dO s3.o + 4 ≤ d; rw [w7, r8, o5]; omega) with ⟨L2, s4, p2, g4, m4, x1, x2, x3, x4, x5, x6, x7, x8, x9⟩ | ho
      · have k4 := cS_k x3
        have C4 := C3.tr x4
        have B4 := B2.tr x9 (Int.le_refl _)
        rw [x1, e_xe x2, e_xl (ci := 3) k3]
        show tIn vS _ _ τ ta n tp kd g m st (aB (aWt (lx tp n) 215 s4) _) (zXd g4 3 (some τ) (f_X3_want g4 m4 (some τ) 215) _ _) ∨ tOut _ τ g m st (aB (aWt (lx tp n) 215 s4) _) (zXd g4 3 (some τ) (f_X3_want g4 m4 (some τ) 215) _ _)
        refine (t_want hb n300 x3 x6 C4 B4 (by omega) (by omega) (c := (215 : Int32)) (ci := 215) (by decide) (by decide) (fun q hq => by rw [hq]; rfl) (fun r hr hq => by rw [e_xe hq, e_xr (ci := 3) k4 hr])).elim (fun ⟨m5, u1, u2, u3, u4, u5, u6, u7⟩ => ?_) Or.inr
        obtain ⟨s5, es5⟩ : ∃ s5, s5 = aNx (lx tp n) s4 := ⟨_, rfl⟩
        rw [← es5] at u1 u4 u5 u6 u7
        have C5 := C4.tr u3
        have k5 := cS_k u4
        rw [u1, e_xe u2, e_xl (ci := 3) k4]
        show tIn vS _ _ τ ta n tp kd g m st ((rec.2.2.2.2.2.2 s5).bind _) (zXd g4 3 (some τ) (rc.2.2.2.2.2.2 g4 m5 (some τ)) _ _) ∨ tOut _ τ g m st ((rec.2.2.2.2.2.2 s5).bind _) (zXd g4 3 (some τ) (rc.2.2.2.2.2.2 g4 m5 (some τ)) _ _)
        rcases hS g4 m5 s5 u4 u5 (by show dO s5.o + 4 ≤ d; rw [u7, x8, w7, r8, o5]; omega) with ⟨L3, s6, p3, g6, m6, y1, y2, y3, y4, y5, y6, y7, y8, y9⟩ | ho
        · have k6 := cS_k y3
          have C6 := C5.tr y4
          have B6 := B4.tr y9 (Int.le_refl _)
          rw [y1, e_xe y2, e_xl (ci := 3) k5]
          show tIn vS _ _ τ ta n tp kd g m st (aB (aWt (lx tp n) 216 s6) _) (zXd g6 3 (some τ) (f_X3_want g6 m6 (some τ) 216) _ _) ∨ tOut _ τ g m st (aB (aWt (lx tp n) 216 s6) _) (zXd g6 3 (some τ) (f_X3_want g6 m6 (some τ) 216) _ _)
          refine (t_want hb n300 y3 y6 C6 B6 (by omega) (by omega) (c := (216 : Int32)) (ci := 216) (by decide) (by decide) (fun q hq => by rw [hq]; rfl) (fun r hr hq => by rw [e_xe hq, e_xr (ci := 3) k6 hr])).elim (fun ⟨m7, v1, v2, v3, v4, v5, v6, v7⟩ => ?_) Or.inr
          obtain ⟨s7, es7⟩ : ∃ s7, s7 = aNx (lx tp n) s6 := ⟨_, rfl⟩
          rw [← es7] at v1 v4 v5 v6 v7
          have C7 := C6.tr v3
          rw [v1, e_xe v2, e_xl (ci := 3) k6]
          left
          obtain ⟨m8, e8, z8, f8⟩ := c_shutI v4 v5.2.2
          have C8 := C7.tr f8
          obtain ⟨nS, nG, nB⟩ := t_new (k := zSl 11) (t := 12) (len := 0) z8 (by decide)
          obtain ⟨z, ez⟩ : ∃ z, z = zZ g6 := ⟨_, rfl⟩
          obtain ⟨G, eG⟩ : ∃ G, G = zgrow g6 (zSl 11) 12 0 := ⟨_, rfl⟩
          obtain ⟨A, eA⟩ : ∃ A, A = zfresh m8 z := ⟨_, rfl⟩
          rw [← ez, ← eG, ← eA] at nS nG
          rw [← eG] at nB
          have Gz : (zK G z).1 = 11 + 1 := by rw [eG, ez, zgrow_Ks]
          have GZ : zZ G = z + 1 := by rw [eG, ez, zgrow_Z]
          have hCG := C8.tr nG
          have hBG : zB G ≤ z := by rw [hCG.1.1]; have := C8.1.2.2.1; omega
          obtain ⟨M, eM⟩ : ∃ M, M = zsR (zsR (zsR A z 0 (some p1)) z 1 (some p2)) z 2 (some p3) := ⟨_, rfl⟩
          have sM : tSm (fun q => q ≠ z) A M := fun q hq => by
            rw [eM, zsR_I, zsR_J, zsR_R, zsR_I, zsR_J, zsR_R, zsR_I, zsR_J, zsR_R, zup_r _ _ hq, zup_r _ _ hq, zup_r _ _ hq]; exact ⟨rfl, rfl, rfl⟩
          obtain ⟨wS, wG, wF⟩ := t_wri nS hCG (by have := C8.1.2.2.1; omega) b0.2.1 b0.2.2.1 b0.2.2.2 sM
          have hx : f_X11_init G A (some z) (some p1) (some p2) (some p3) = some M := by
            show ((f_J10_init G A (some z)).bind fun _ => (zpr G A 11 0 (some z) (some p1)).bind fun m1 => (zpr G m1 11 1 (some z) (some p2)).bind fun m2 => (zpr G m2 11 2 (some z) (some p3)).bind fun m3 => some m3) = _
            rw [show f_J10_init G A (some z) = some () from rfl, Option.bind_some, e_pr (ci := 11) Gz hBG, Option.bind_some, e_pr (ci := 11) Gz hBG, Option.bind_some, e_pr (ci := 11) Gz hBG, eM]; rfl
          have c2 := C2.1.2.2.1
          have c4 := x4.1.2.2.1
          have c6 := y4.1.2.2.1
          have b2 := cS_b r3
          have b4 := cS_b x3
          have b6 := cS_b y3
          have o8 : (aSh s7).o = st.o := by show s7.o - 1 = st.o; omega
          have g68 : cG τ g6 m6 G A := (v3.tr f8).tr nG
          have g48 : cG τ g4 m4 G A := (u3.tr y4).tr g68
          have g28 : cG τ g2 m2 G A := (w3.tr x4).tr g48
          have q1 : vA (dO st.o) (fun q => zZ g ≤ q ∧ q < zZ G) G M p1 L1 := (r5.mono (by show dO s1.o + 6 ≤ dO st.o; rw [o5]; omega) (fun _ y => y) (agF_g g28 (fun q hq => by have := hq.1; have := hq.2; omega) b2.1 b2.2.2.2)).mono (Nat.le_refl _) (fun q hq => by have := hq.1; have := hq.2; exact ⟨by omega, by omega⟩) (wF _ (fun y => by have := y.2; omega))
          have q2 : vS (dO st.o) (fun q => zZ g ≤ q ∧ q < zZ G) G M p2 L2 := (x5.mono (by show dO s3.o + 3 ≤ dO st.o; rw [w7, r8, o5]; omega) (fun _ y => y) (agF_g g48 (fun q hq => by have := hq.1; have := hq.2; omega) b4.1 b4.2.2.2)).mono (Nat.le_refl _) (fun q hq => by have := hq.1; have := hq.2; exact ⟨by omega, by omega⟩) (wF _ (fun y => by have := y.2; omega))
          have q3 : vS (dO st.o) (fun q => zZ g ≤ q ∧ q < zZ G) G M p3 L3 := (y5.mono (by show dO s5.o + 3 ≤ dO st.o; rw [u7, x8, w7, r8, o5]; omega) (fun _ y => y) (agF_g g68 (fun q hq => by have := hq.1; have := hq.2; omega) b6.1 b6.2.2.2)).mono (Nat.le_refl _) (fun q hq => by have := hq.1; have := hq.2; exact ⟨by omega, by omega⟩) (wF _ (fun y => by have := y.2; omega))
          refine ⟨L1 ++ L2 ++ L3 ++ [(3, 0)], aSh s7, z, G, M, rfl, ?_, wS, wG, ?_, ⟨v5.1, v5.2.1, by rw [o8]; exact hv.2.2⟩, by show st.p < s7.p; omega, o8, B6.tr nB (by show _ ≤ 50 * (s7.p - st.p) - 40; omega)⟩
          · show ((zgi g6 m7 3 6 (some τ)).bind fun v39 => (zpi g6 m7 3 6 (some τ) (v39 - (1 : Int32))).bind fun m40 => (f_X11_init (zgrow g6 (zSl 11) 12 0) (zfresh m40 (zZ g6)) (some (zZ g6)) (some p1) (some p2) (some p3)).bind fun m44 => (some (.inl (some (zZ g6), zgrow g6 (zSl 11) 12 0, m44)) : Option tRes)) = _
            rw [e8, ← ez, ← eG, ← eA, hx]; rfl
          · exact v_if q1 q2 q3 ⟨by omega, by omega⟩ Gz (by rw [eM, zsR_R, zup_k _ _ (by omega), zsR_R, zup_k _ _ (by omega), zsR_R, zup_s]) (by rw [eM, zsR_R, zup_k _ _ (by omega), zsR_R, zup_s]) (by rw [eM, zsR_R, zup_s])
        · exact Or.inr (tOut.tr C5 B4 ho (fun q hq => by rw [hq]; rfl) (fun r hr hq => by rw [e_xe hq, e_xr (ci := 3) k5 hr]) (by omega) (by omega))
      · exact Or.inr (tOut.tr C3 B2 ho (fun q hq => by rw [hq]; rfl) (fun r hr hq => by rw [e_xe hq, e_xr (ci := 3) k3 hr]) (by omega) (by omega))
    · exact Or.inr (tOut.tr C1 B1 ho (fun q hq => by rw [hq]; rfl) (fun r hr hq => by rw [e_xe hq, e_xr (ci := 3) k1 hr]) (by omega) (by omega))
  · right
    refine ⟨3, st.p, r, by rw [o1]; rfl, ?_, o3.wk (by omega) (by omega), by omega⟩
    rw [e_xe o2, e_xr (ci := 3) kτ o3.1]
end
