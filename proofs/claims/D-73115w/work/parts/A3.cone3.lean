/-! COMPONENT READING: one is read, the rest; all of them -/
set_option maxRecDepth 100000
section
variable {τ ta : Nat} {n kd : Int} {tp : Int → Int} {d : Nat}
theorem t_one2 (hb : ∀ i, 0 ≤ i → i < n → 0 ≤ tp i ∧ tp i ≤ 255) (n300 : n ≤ 300) {rc : tTb} {rec : aTb} (hO : tFn vS (fun o => dO o + 1) 40 10 (fun o => dO o + 2 ≤ d) τ ta n tp kd rc.2.2.2.2.1 rec.2.2.2.2.1) (hS : tFn vS (fun o => dO o + 3) 30 20 (fun o => dO o + 4 ≤ d) τ ta n tp kd rc.2.2.2.2.2.2 rec.2.2.2.2.2.2) {g : zGd} {m : zMm} {st : aSt} (h0 : cS τ ta n tp kd g m st) (hv : aV n st) (hs : st.s ≠ 300 ∧ st.s ≠ 213 ∧ aNm st.s = -1) (hN : dO st.o + 2 ≤ d + 1) : tIn vS (dO st.o + 1) 40 τ ta n tp kd g m st (aOne (lx tp n) kd rec st) (q_X3_one rc g m (some τ)) ∨ tOut 10 τ g m st (aOne (lx tp n) kd rec st) (q_X3_one rc g m (some τ)) := by
  have b0 := cS_b h0
  have kτ := cS_k h0
  have v4 := h0.2.1.2.2.1
  have q300 := i_eq v4 (show (300 : Int32).toInt = 300 by decide)
  have q213 := i_eq v4 (show (213 : Int32).toInt = 213 by decide)
  have q40 := i_eq v4 (show (40 : Int32).toInt = 40 by decide)
  have q45 := i_eq v4 (show (45 : Int32).toInt = 45 by decide)
  have q211 := i_eq v4 (show (211 : Int32).toInt = 211 by decide)
  have q212 := i_eq v4 (show (212 : Int32).toInt = 212 by decide)
  have em : aOne (lx tp n) kd rec st = (if st.s = 40 then aB (aOp (lx tp n) st) fun s1 => (rec.2.2.2.2.2.2 s1).bind fun r => aB r fun x => aB (aWt (lx tp n) 41 x.2) fun s3 => some (.inl (x.1, aSh s3))
     else if st.s = 45 ∨ st.s = 211 ∨ st.s = 212 then aB (aOp (lx tp n) st) fun s1 => (rec.2.2.2.2.1 s1).bind fun r => aB r fun x => some (.inl (x.1 ++ [(aUn st.s, 0)], aSh x.2))
     else some (.inr (1, st.p))) := by
    unfold aOne
    rw [if_neg hs.1, if_neg hs.2.1, if_pos hs.2.2]
  obtain ⟨Kf, eKf⟩ : ∃ Kf : Option Nat × zGd × zMm → Option tRes, Kf = fun (r6, g7, m8) => (zgi g7 m8 3 6 (some τ)).bind fun v57 => (zpi g7 m8 3 6 (some τ) (v57 - (1 : Int32))).bind fun m58 => some (.inl (r6, g7, m58)) := ⟨_, rfl⟩
  obtain ⟨P, eP⟩ : ∃ P : Option (tRes ⊕ (Option Nat × zGd × zMm)), P = zXd g 3 (some τ) (f_X3_opens g m (some τ)) (fun (q43, g44, m45) => some (.inl (.inr (q43, g44, m45)))) fun (_, g41, m42) =>
    zXd g41 3 (some τ) (rc.2.2.2.2.2.2 g41 m42 (some τ)) (fun (q49, g50, m51) => some (.inl (.inr (q49, g50, m51)))) fun (r46, g47, m48) =>
    zXd g47 3 (some τ) (f_X3_want g47 m48 (some τ) (41 : Int32)) (fun (q54, g55, m56) => some (.inl (.inr (q54, g55, m56)))) fun (_, g52, m53) =>
    some (.inr (r46, g52, m53)) := ⟨_, rfl⟩
  obtain ⟨Q, eQ⟩ : ∃ Q : Option (tRes ⊕ (Option Nat × zGd × zMm)), Q = zXd g 3 (some τ) (f_X3_opens g m (some τ)) (fun (q20, g21, m22) => some (.inl (.inr (q20, g21, m22)))) fun (_, g18, m19) =>
    zXd g18 3 (some τ) (rc.2.2.2.2.1 g18 m19 (some τ)) (fun (q26, g27, m28) => some (.inl (.inr (q26, g27, m28)))) fun (r23, g24, m25) =>
    if zI m τ 4 = (211 : Int32) then ((f_X13_init (zgrow g24 (zSl 13) 14 0) (zfresh m25 (zZ g24)) (some (zZ g24)) r23).bind fun m40 => some (.inr (some (zZ g24), zgrow g24 (zSl 13) 14 0, m40)))
    else (if zI m τ 4 = (212 : Int32) then ((f_X14_init (zgrow g24 (zSl 14) 15 0) (zfresh m25 (zZ g24)) (some (zZ g24)) r23).bind fun m36 => some (.inr (some (zZ g24), zgrow g24 (zSl 14) 15 0, m36)))
    else ((f_X15_init (zgrow g24 (zSl 15) 16 0) (zfresh m25 (zZ g24)) (some (zZ g24)) r23).bind fun m32 => some (.inr (some (zZ g24), zgrow g24 (zSl 15) 16 0, m32)))) := ⟨_, rfl⟩
  obtain ⟨r0, e5, x5⟩ := c_wrong h0 (f := 1) (fi := 1) (by decide)
  have ec : q_X3_one rc g m (some τ) = if st.s = 40 then zEx P Kf else if st.s = 45 ∨ st.s = 211 ∨ st.s = 212 then zEx Q Kf else some (.inr r0) := by
    unfold q_X3_one
    rw [e_gi (ci := 3) kτ, Option.bind_some, if_neg (fun y => hs.1 (q300.mp y)), Option.bind_some, if_neg (fun y => hs.2.1 (q213.mp y)), e_rc (ci := 3) kτ, c_nameNow h0, Option.bind_some, hs.2.2, if_pos (by decide), Option.bind_some]
    by_cases w1 : st.s = 40
    · rw [if_pos w1, if_pos (q40.mpr w1), eP, eKf]
    · rw [if_neg w1, if_neg (fun y => w1 (q40.mp y)), Option.bind_some]
      by_cases w2 : st.s = 45
      · rw [if_pos (Or.inl w2), if_pos (q45.mpr w2), eQ, eKf]; rfl
      · rw [if_neg (fun y => w2 (q45.mp y)), Option.bind_some]
        by_cases w3 : st.s = 211
        · rw [if_pos (Or.inr (Or.inl w3)), if_pos (q211.mpr w3), eQ, eKf]; rfl
        · rw [if_neg (fun y => w3 (q211.mp y)), Option.bind_some]
          by_cases w4 : st.s = 212
          · rw [if_pos (Or.inr (Or.inr w4)), if_pos (q212.mpr w4), eQ, eKf]; rfl
          · rw [if_neg (fun y => w4 (q212.mp y)), if_neg (by omega), e5 ((tRes ⊕ (Option Nat × zGd × zMm)) ⊕ Unit) (fun q g1 m1 => some (.inl (.inl (.inr (q, g1, m1)))))]
            rfl
  rw [em, ec]
  by_cases w1 : st.s = 40
  · rw [if_pos w1, if_pos w1, eP]
    have hpa : st.p < st.a := hv.2.1 (by omega)
    rcases c_opens hb n300 h0 hv with ⟨s1, m1, o1, o2, o3, o4, o5, o6, o7⟩ | ⟨r, o1, o2, o3⟩
    · obtain ⟨t1, t2, t3⟩ := vN (tp := tp) (n := n) (st := (st.s, st.n, st.p, st.a, st.o + 1)) ⟨hv.1, hv.2.1, by show 0 ≤ st.o + 1 ∧ st.o + 1 ≤ 8; have := hv.2.2; omega⟩
      rw [← o7] at t1 t2 t3
      have t2 : st.a ≤ s1.p := t2
      have hdo := dO_s hv.2.2.1 o6
      rw [o1, e_xe o2, e_xl (ci := 3) kτ]
      have C1 := cG.tk (g := g) o3
      have B1 : tBd g g 0 := tBd.rf (Int.le_refl 0)
      have k1 := cS_k o4
      show tIn vS _ _ τ ta n tp kd g m st ((rec.2.2.2.2.2.2 s1).bind _) (zEx (zXd g 3 (some τ) (rc.2.2.2.2.2.2 g m1 (some τ)) _ _) Kf) ∨ tOut _ τ g m st ((rec.2.2.2.2.2.2 s1).bind _) (zEx (zXd g 3 (some τ) (rc.2.2.2.2.2.2 g m1 (some τ)) _ _) Kf)
      rcases hS g m1 s1 o4 t1 (by show dO s1.o + 4 ≤ d; rw [o5]; omega) with ⟨L1, s2, p1, g2, m2, r1, r2, r3, r4, r5, r6, r7, r8, r9⟩ | ho
      · have k2 := cS_k r3
        have C2 := C1.tr r4
        have B2 := B1.tr r9 (Int.le_refl _)
        rw [r1, e_xe r2, e_xl (ci := 3) k1]
        show tIn vS _ _ τ ta n tp kd g m st (aB (aWt (lx tp n) 41 s2) _) (zEx (zXd g2 3 (some τ) (f_X3_want g2 m2 (some τ) 41) _ _) Kf) ∨ tOut _ τ g m st (aB (aWt (lx tp n) 41 s2) _) (zEx (zXd g2 3 (some τ) (f_X3_want g2 m2 (some τ) 41) _ _) Kf)
        refine (t_want hb n300 r3 r6 C2 B2 (by omega) (by omega) (c := (41 : Int32)) (ci := 41) (by decide) (by decide) (fun q hq => by rw [hq]; rfl) (fun r hr hq => by rw [e_xe hq, e_xr (ci := 3) k2 hr]; rfl)).elim (fun ⟨m3, w1, w2, w3, w4, w5, w6, w7⟩ => ?_) Or.inr
        obtain ⟨s3, es3⟩ : ∃ s3, s3 = aNx (lx tp n) s2 := ⟨_, rfl⟩
        rw [← es3] at w1 w4 w5 w6 w7
        have C3 := C2.tr w3
        rw [w1, e_xe w2, e_xl (ci := 3) k2]
        left
        obtain ⟨m8, e8, z8, f8⟩ := c_shutI w4 w5.2.2
        have C8 := C3.tr f8
        have b2 := cS_b r3
        have c2 := C2.1.2.2.1
        have o8 : (aSh s3).o = st.o := by show s3.o - 1 = st.o; omega
        refine ⟨L1, aSh s3, p1, g2, m8, rfl, ?_, z8, C8, ?_, ⟨w5.1, w5.2.1, by rw [o8]; exact hv.2.2⟩, by show st.p < s3.p; omega, o8, B2.tr (tBd.rf (k := 0) (Int.le_refl 0)) (by show _ ≤ 50 * (s3.p - st.p) - 40; omega)⟩
        · show Kf (some p1, g2, m3) = _
          rw [eKf]
          exact e8 tRes (fun m58 => some (.inl (some p1, g2, m58)))
        · exact r5.mono (by show dO s1.o + 3 ≤ dO st.o + 1; rw [o5]; omega) (fun _ y => y) (agF_g (w3.tr f8) (fun q hq => by have := hq.1; have := hq.2; omega) b2.1 b2.2.2.2)
      · exact Or.inr (tOut.tr C1 B1 ho (fun q hq => by rw [hq]; rfl) (fun r hr hq => by rw [e_xe hq, e_xr (ci := 3) k1 hr]; rfl) (by omega) (by omega))
    · right
      refine ⟨3, st.p, r, by rw [o1]; rfl, ?_, o3.wk (by omega) (by omega), by omega⟩
      rw [e_xe o2, e_xr (ci := 3) kτ o3.1]
      rfl
  · rw [if_neg w1, if_neg w1]
    by_cases w2 : st.s = 45 ∨ st.s = 211 ∨ st.s = 212
    · rw [if_pos w2, if_pos w2, eQ]
      have hpa : st.p < st.a := hv.2.1 (by omega)
      rcases c_opens hb n300 h0 hv with ⟨s1, m1, o1, o2, o3, o4, o5, o6, o7⟩ | ⟨r, o1, o2, o3⟩
      · obtain ⟨t1, t2, t3⟩ := vN (tp := tp) (n := n) (st := (st.s, st.n, st.p, st.a, st.o + 1)) ⟨hv.1, hv.2.1, by show 0 ≤ st.o + 1 ∧ st.o + 1 ≤ 8; have := hv.2.2; omega⟩
        rw [← o7] at t1 t2 t3
        have t2 : st.a ≤ s1.p := t2
        have hdo := dO_s hv.2.2.1 o6
        rw [o1, e_xe o2, e_xl (ci := 3) kτ]
        have C1 := cG.tk (g := g) o3
        have B1 : tBd g g 0 := tBd.rf (Int.le_refl 0)
        have k1 := cS_k o4
        show tIn vS _ _ τ ta n tp kd g m st ((rec.2.2.2.2.1 s1).bind _) (zEx (zXd g 3 (some τ) (rc.2.2.2.2.1 g m1 (some τ)) _ _) Kf) ∨ tOut _ τ g m st ((rec.2.2.2.2.1 s1).bind _) (zEx (zXd g 3 (some τ) (rc.2.2.2.2.1 g m1 (some τ)) _ _) Kf)
        rcases hO g m1 s1 o4 t1 (by show dO s1.o + 2 ≤ d; rw [o5]; omega) with ⟨L1, s2, p1, g2, m2, r1, r2, r3, r4, r5, r6, r7, r8, r9⟩ | ho
        · have k2 := cS_k r3
          have C2 := C1.tr r4
          have B2 := B1.tr r9 (Int.le_refl _)
          rw [r1, e_xe r2, e_xl (ci := 3) k1]
          left
          have b2 := cS_b r3
          have c2 := C2.1.2.2.1
          -- the new cell, of any of three kinds
          have mk : ∀ (c : Nat) (fi : zGd → zMm → Option Nat → Option Nat → Option zMm) (K : Option (tRes ⊕ (Option Nat × zGd × zMm))), zSl c ≤ 60 → (∀ G A z, (zK G z).1 = c + 1 → zB G ≤ z → fi G A (some z) (some p1) = some (zsR A z 0 (some p1))) → ((aUn st.s = 5 ∧ c + 1 = 16) ∨ (aUn st.s = 2 ∧ c + 1 = 14) ∨ (aUn st.s = 4 ∧ c + 1 = 15)) → K = ((fi (zgrow g2 (zSl c) (c + 1) 0) (zfresh m2 (zZ g2)) (some (zZ g2)) (some p1)).bind fun m40 => some (.inr (some (zZ g2), zgrow g2 (zSl c) (c + 1) 0, m40))) → tIn vS (dO st.o + 1) 40 τ ta n tp kd g m st (some (.inl (L1 ++ [(aUn st.s, 0)], aSh s2))) (zEx K Kf) := by
            intro c fi K hc hfi hcs hK
            obtain ⟨nS, nG, nB⟩ := t_new (k := zSl c) (t := c + 1) (len := 0) r3 hc
            obtain ⟨z, ez⟩ : ∃ z, z = zZ g2 := ⟨_, rfl⟩
            obtain ⟨G, eG⟩ : ∃ G, G = zgrow g2 (zSl c) (c + 1) 0 := ⟨_, rfl⟩
            obtain ⟨A, eA⟩ : ∃ A, A = zfresh m2 z := ⟨_, rfl⟩
            rw [← ez, ← eG, ← eA] at nS nG hK
            rw [← eG] at nB
            have Gz : (zK G z).1 = c + 1 := by rw [eG, ez, zgrow_Ks]
            have GZ : zZ G = z + 1 := by rw [eG, ez, zgrow_Z]
            have hCG := C2.tr nG
            have hBG : zB G ≤ z := by rw [hCG.1.1]; omega
            have sM : tSm (fun q => q ≠ z) A (zsR A z 0 (some p1)) := fun q hq => by
              rw [zsR_I, zsR_J, zsR_R, zup_r _ _ hq]; exact ⟨rfl, rfl, rfl⟩
            obtain ⟨M, eM⟩ : ∃ M, M = zsR A z 0 (some p1) := ⟨_, rfl⟩
            rw [hfi G A z Gz hBG, ← eM] at hK
            rw [← eM] at sM
            obtain ⟨wS, wG, wF⟩ := t_wri nS hCG (by omega) b0.2.1 b0.2.2.1 b0.2.2.2 sM
            obtain ⟨m8, e8, z8, f8⟩ := c_shutI wS r6.2.2
            have o8 : (aSh s2).o = st.o := by show s2.o - 1 = st.o; omega
            refine ⟨L1 ++ [(aUn st.s, 0)], aSh s2, z, G, m8, rfl, ?_, z8, wG.tr f8, ?_, ⟨r6.1, r6.2.1, by rw [o8]; exact hv.2.2⟩, by show st.p < s2.p; omega, o8, B2.tr nB (by show _ ≤ 50 * (s2.p - st.p) - 40; omega)⟩
            · rw [hK]
              show Kf (some z, G, M) = _
              rw [eKf]
              exact e8 tRes (fun m58 => some (.inl (some z, G, m58)))
            · have h1 : vS (dO st.o) (fun q => zZ g ≤ q ∧ q < zZ G) G M p1 L1 := (r5.mono (by show dO s1.o + 1 ≤ dO st.o; rw [o5]; omega) (fun _ y => y) (agF_g nG (fun q hq => by have := hq.1; have := hq.2; omega) b2.1 b2.2.2.2)).mono (Nat.le_refl _) (fun q hq => by have := hq.1; have := hq.2; exact ⟨by omega, by omega⟩) (wF _ (fun y => by have := y.2; omega))
              have h2 := v_one (o := aUn st.s) h1 (p := z) ⟨by omega, by omega⟩ (by rw [Gz]; exact hcs) (by rw [eM, zsR_R, zup_s])
              exact h2.mono (Nat.le_refl _) (fun _ y => y) (agF_g f8 (fun q hq => by have := hq.1; have := hq.2; omega) (by have := cS_b wS; omega) (cS_b wS).2.2.2)
          show tIn vS _ _ τ ta n tp kd g m st (some (.inl (L1 ++ [(aUn st.s, 0)], aSh s2))) (zEx (if zI m τ 4 = (211 : Int32) then _ else _) Kf)
          by_cases w3 : st.s = 211
          · refine mk 13 f_X13_init _ (by decide) (fun G A z hk hbz => ?_) (Or.inr (Or.inl ⟨by rw [w3]; rfl, rfl⟩)) (if_pos (q211.mpr w3))
            show ((f_J10_init G A (some z)).bind fun _ => (zpr G A 13 0 (some z) (some p1)).bind fun m1 => some m1) = _
            rw [show f_J10_init G A (some z) = some () from rfl, Option.bind_some, e_pr (ci := 13) hk hbz]; rfl
          · by_cases w4 : st.s = 212
            · refine mk 14 f_X14_init _ (by decide) (fun G A z hk hbz => ?_) (Or.inr (Or.inr ⟨by rw [w4]; rfl, rfl⟩)) ((if_neg (fun y => w3 (q211.mp y))).trans (if_pos (q212.mpr w4)))
              show ((f_J10_init G A (some z)).bind fun _ => (zpr G A 14 0 (some z) (some p1)).bind fun m1 => some m1) = _
              rw [show f_J10_init G A (some z) = some () from rfl, Option.bind_some, e_pr (ci := 14) hk hbz]; rfl
            · refine mk 15 f_X15_init _ (by decide) (fun G A z hk hbz => ?_) (Or.inl ⟨by unfold aUn; rw [if_neg w3, if_neg w4], rfl⟩) ((if_neg (fun y => w3 (q211.mp y))).trans (if_neg (fun y => w4 (q212.mp y))))
              show ((f_J10_init G A (some z)).bind fun _ => (zpr G A 15 0 (some z) (some p1)).bind fun m1 => some m1) = _
              rw [show f_J10_init G A (some z) = some () from rfl, Option.bind_some, e_pr (ci := 15) hk hbz]; rfl
        · exact Or.inr (tOut.tr C1 B1 ho (fun q hq => by rw [hq]; rfl) (fun r hr hq => by rw [e_xe hq, e_xr (ci := 3) k1 hr]; rfl) (by omega) (by omega))
      · right
        refine ⟨3, st.p, r, by rw [o1]; rfl, ?_, o3.wk (by omega) (by omega), by omega⟩
        rw [e_xe o2, e_xr (ci := 3) kτ o3.1]
        rfl
    · rw [if_neg w2, if_neg w2]
      exact Or.inr ⟨1, st.p, r0, rfl, rfl, x5.wk (by omega) (by omega), by omega⟩
end
