/-! COMPONENT READING: askings in a row, whole -/
set_option maxRecDepth 100000
section
variable {τ ta : Nat} {n kd : Int} {tp : Int → Int} {f1 : tRd} {h1 : aFn} {c an : Int32} {i1 o : Int} {Df : Int → Nat} {s1 e1 s e : Int} {N : Int → Prop}
theorem al_all (hb : ∀ i, 0 ≤ i → i < n → 0 ≤ tp i ∧ tp i ≤ 255) (n300 : n ≤ 300) (hf : tFn vA Df s1 e1 N τ ta n tp kd f1 h1) (hc : c.toInt = i1) (hi : i1 ≠ 301) (s10 : 0 ≤ s1) (s0 : 0 ≤ s) (se : e1 ≤ e + 50) (ss : s ≤ s1 - 13) (ee : e1 + 1 ≤ e) (ho : (o = 21 ∧ an = 1) ∨ (o = 22 ∧ an = 0)) : tFn vA (fun o => Df o + 1) s e N τ ta n tp kd (qAll f1 c an) (aCh (lx tp n) i1 i1 o o h1) := by
  intro g m st hS hv hN
  have s17 : zSl 17 = 3 := rfl
  have bS := cS_b hS
  obtain ⟨l, el⟩ : ∃ l, l = zZ g := ⟨_, rfl⟩
  obtain ⟨A, j1, j2, j3, j4⟩ := b_new hS.2.2 bS.2.2.2
  obtain ⟨G, eG⟩ : ∃ G, G = zgrow g (zSl 17) 18 0 := ⟨_, rfl⟩
  rw [← eG] at j1 j2
  rw [← el] at j2 j3 j4
  have GZ : zZ G = l + 1 := by rw [eG, el, zgrow_Z]
  have gG : tGr g G := by rw [eG]; exact tGr.new
  have nB : tBd g G 1 := by rw [eG]; exact tBd.new (by omega)
  have nS : cS τ ta n tp kd G A st := cS_s hS gG (fun q hq => j3 q (by rcases hq with y | y | y <;> omega))
  have nG : cG τ g m G A := by rw [eG]; exact cG.new (fun q hq => (j3 q (by omega)).1) (fun q hq => (j3 q (by omega)).2.1) (fun q hq => (j3 q (by omega)).2.2) bS.2.1
  have hBG : zB G = zB g := gG.1.1
  obtain ⟨R, eR⟩ : ∃ R : Option Nat → zGd → zMm → Option tRes, R = fun r5 g6 m7 => ((zrc g6 17 (some l) (f_J2_add g6 m7 (some l) r5)).bind fun (v11, g12, m13) => zEx (σ := zGd × zMm) (zLoop (bAll f1 c (some τ) (some l)) zFuel (g12, m13)) fun (g15, m16) => (zrc g15 17 (some l) (f_J2_size g15 m16 (some l))).bind fun v32 => if v32 = (1 : Int32) then ((zrc g15 17 (some l) (f_J2_get g15 m16 (some l) (0 : Int32))).bind fun r37 => (zcst [8, 9, 10] g15 r37).bind fun _ => some (.inl (r37, g15, m16))) else (zlt (znewo g15 m16 10) fun (g33, m34) => zlt (some (zZ g15)) fun r35 => zob r35 ((f_X10_init g33 m34 r35 an (some l)).bind fun m36 => some (.inl (r35, g33, m36))))) := ⟨_, rfl⟩
  have hq : qAll f1 c an g m (some τ) = zXd G 3 (some τ) (f1 G A (some τ)) (fun (q8, g9, m10) => some (.inr (q8, g9, m10))) fun (r5, g6, m7) => R r5 g6 m7 := by
    have : qAll f1 c an g m (some τ) = ((f_J2_init (zgrow g (zSl 17) 18 0) (zfresh m (zZ g)) (some (zZ g))).bind fun m4 => zXd (zgrow g (zSl 17) 18 0) 3 (some τ) (f1 (zgrow g (zSl 17) 18 0) m4 (some τ)) (fun (q8, g9, m10) => some (.inr (q8, g9, m10))) fun (r5, g6, m7) => R r5 g6 m7) := by
      rw [eR, el]; rfl
    rw [this, ← eG, j1, Option.bind_some]
  rw [hq]
  have kτ := cS_k nS
  rcases hf G A st nS hv hN with ⟨C, st', p, g2, m2, r1, r2, r3, r4, r5, r6, r7, r8, r9⟩ | ⟨fl, pl, r, r1, r2, r3, r4⟩
  · have hz2 := r4.gr.1.2.2.1
    obtain ⟨g3, m3, F', e3, S3, C3, B3, t3, n3, L3, w1, w2⟩ := al_add (g0 := g) (m0 := m) (L := []) (F := fun _ => False) bS.2.1 bS.2.2.1 bS.2.2.2 j2 (by omega) (fun d hd => ⟨by have := j4 d hd; omega, fun y => y⟩) (by decide) (fun e he => absurd he List.not_mem_nil) (fun y => y) (fun q hq => hq.elim) nG (by omega) (by omega) r4 r3 r5
    have inv : tAl (Df st.o) (s + 1) τ ta n tp kd g m st l (p, C) [] F' g3 m3 st' := by
      refine ⟨⟨S3, C3, r6, r7, r8, ?_, ?_⟩, ⟨B3, by omega⟩, n3, L3, w1, w2⟩
      · have := hv.1; show ((0 : Nat) : Int) < st'.p; omega
      · exact (nB.tr r9 (Int.le_refl _)).tr t3 (by omega)
    have pre : ∀ Y, (zEx (σ := zGd × zMm) (zLoop (bAll f1 c (some τ) (some l)) zFuel (g3, m3)) fun (g15, m16) => (zrc g15 17 (some l) (f_J2_size g15 m16 (some l))).bind fun v32 => if v32 = (1 : Int32) then ((zrc g15 17 (some l) (f_J2_get g15 m16 (some l) (0 : Int32))).bind fun r37 => (zcst [8, 9, 10] g15 r37).bind fun _ => some (.inl (r37, g15, m16))) else (zlt (znewo g15 m16 10) fun (g33, m34) => zlt (some (zZ g15)) fun r35 => zob r35 ((f_X10_init g33 m34 r35 an (some l)).bind fun m36 => some (.inl (r35, g33, m36)))) : Option tRes) = Y → zXd G 3 (some τ) (f1 G A (some τ)) (fun (q8, g9, m10) => some (.inr (q8, g9, m10))) (fun (r5, g6, m7) => R r5 g6 m7) = Y := fun Y hY => by
      rw [e_xe r2, e_xl (ci := 3) kτ]
      show R (some p) g2 m2 = Y
      rw [eR]
      show ((zrc g2 17 (some l) (f_J2_add g2 m2 (some l) (some p))).bind _) = _
      rw [e3]
      exact hY
    have am : ∀ Y, (zLoop (aMo (lx tp n) i1 i1 o o h1) zFuel (allC o C [], st')).bind (fun y => some (aLp y)) = Y → aCh (lx tp n) i1 i1 o o h1 st = Y := fun Y hY => by
      unfold aCh
      rw [r1]
      exact hY
    rcases al_loop (o := o) (s := s + 1) (e := e) hb n300 hf hc hi s10 (by omega) bS.2.1 bS.2.2.1 bS.2.2.2 hN 300 zFuel [] _ g3 m3 st' (by have := r6.1; omega) (by unfold zFuel; omega) inv with ⟨it, F, g4, m4, s4, u1, u2, u3⟩ | ⟨fl, pl, r, u1, u2, u3, u4⟩
    · left
      obtain ⟨⟨a1, a2, a3, a4, a5, a6, a7⟩, ⟨d1, d2⟩, d3, d4, d5, d6⟩ := u3
      have hlen : it.length ≤ 300 := by have := a3.1; omega
      have b4 := cS_b a1
      obtain ⟨Fs, eFs⟩ : ∃ Fs : Nat → Prop, Fs = fun q => zZ g ≤ q ∧ q < zZ g4 := ⟨_, rfl⟩
      have hFs : ∀ q, F q → Fs q := fun q hq => by rw [eFs]; exact d6 q hq
      have agr : agF F g4 m4 g4 m4 := ⟨rfl, rfl, fun _ _ => ⟨rfl, rfl, rfl⟩⟩
      have hls : lsR Fs g4 m4 l (((p, C) :: it).map fun e => e.1) := bl_ls d1 (by rw [eFs]; exact ⟨d2, d1.2.2.1⟩) (fun d hd => by
        have w1 := (d3 d hd).1
        have w2 := (bl_d d1 hd).1
        rw [eFs]
        omega) (by rw [List.length_map, List.length_cons]; omega)
      have hsz : (zI m4 l 2).toInt = (it.length : Int) + 1 := by
        rw [hls.2.2.1, List.length_map, List.length_cons]; omega
      have q1 := i_eq hsz (show (1 : Int32).toInt = 1 by decide)
      by_cases cc : it = []
      · subst cc
        have h0 := d4 (p, C) (List.mem_cons_self ..)
        refine ⟨C, s4, p, g4, m4, am _ (by rw [u1]; rfl), pre _ ?_, a1, a2, ?_, a3, a4, a5, a7.tr (tBd.rf (Int.le_refl 0)) (by omega)⟩
        · rw [u2]
          show ((zrc g4 17 (some l) (f_J2_size g4 m4 (some l))).bind _) = _
          have hcst : zcst [8, 9, 10] g4 (some p) = some () := by
            refine if_pos ?_
            rcases h0.1.2 with q | q | q <;> rw [q] <;> decide
          rw [ls_size hls, Option.bind_some, if_pos (q1.mpr (by rfl)), ls_get hls (k := 0) (by decide) rfl, Option.bind_some, hcst]
          rfl
        · exact h0.mono (Nat.le_succ (Df st.o)) (fun q hq => d6 q hq) agr
      · obtain ⟨w, ew⟩ : ∃ w, w = zZ g4 := ⟨_, rfl⟩
        obtain ⟨tS, tG, tB⟩ := t_new (k := zSl 10) (t := 11) (len := 0) a1 (by decide)
        obtain ⟨H, eH⟩ : ∃ H, H = zgrow g4 (zSl 10) 11 0 := ⟨_, rfl⟩
        obtain ⟨M, eM⟩ : ∃ M, M = zfresh m4 w := ⟨_, rfl⟩
        obtain ⟨M2, eM2⟩ : ∃ M2, M2 = zsR (zsI M w 0 an) w 1 (some l) := ⟨_, rfl⟩
        rw [← ew, ← eH, ← eM] at tS tG
        rw [← eH] at tB
        have Hw : (zK H w).1 = 10 + 1 := by rw [eH, ew, zgrow_Ks]
        have HB : zB H ≤ w := by rw [tG.1.1]; omega
        have HZ : zZ H = w + 1 := by rw [eH, zgrow_Z, ew]
        have GH : tGr g4 H := tG.gr
        have sM : tSm (fun q => q ≠ w) m4 M2 := fun q hq => by
          rw [eM2, zsR_I, zsR_J, zsR_R, zsI_I, zsI_J, zsI_R, zup_r _ _ hq, zup_r _ _ hq, eM, zfresh_In m4 hq, zfresh_Jn m4 hq, zfresh_Rn m4 hq]
          exact ⟨rfl, rfl, rfl⟩
        have hx10 : f_X10_init H M (some w) an (some l) = some M2 := by
          have j0 : f_J10_init H M (some w) = some () := rfl
          show ((f_J10_init H M (some w)).bind fun _ => (zpz H M 10 0 (some w) an).bind fun m1 => (zpr H m1 10 1 (some w) (some l)).bind fun m2 => some m2) = _
          have z0 : zpz H M 10 0 (some w) an = some (zsI M w 0 an) := if_pos ⟨⟨Hw, HB⟩, by rcases ho with y | y <;> simp [y.2]⟩
          rw [j0, Option.bind_some, z0, Option.bind_some, e_pr (ci := 10) Hw HB, eM2]; rfl
        have agH : agF Fs g4 m4 H M2 := agF_s GH (sM.wk fun q hq => by
          rw [eFs] at hq
          rcases hq with y | y <;> omega) (fun q hq => by rw [eFs] at hq; exact hq.2) b4.2.2.2
        refine ⟨allC o C it, s4, w, H, M2, am _ (by rw [u1]; rfl), pre _ ?_, cS_s a1 GH (sM.wk fun q hq => by rcases hq with y | y | y <;> omega), a2.st GH (sM.wk fun q hq => by have := a2.1.2.2.1; omega) bS.2.1, ?_, a3, a4, a5, a7.tr tB (by omega)⟩
        · rw [u2]
          show ((zrc g4 17 (some l) (f_J2_size g4 m4 (some l))).bind _) = _
          rw [ls_size hls, Option.bind_some, if_neg (fun y => cc (by
            have := q1.mp y
            exact List.length_eq_zero_iff.mp (by omega)))]
          show ((f_X10_init (zgrow g4 (zSl 10) 11 0) (zfresh m4 (zZ g4)) (some (zZ g4)) an (some l)).bind _) = _
          rw [← ew, ← eH, ← eM, hx10]
          rfl
        · have hF2 : ∀ q, Fs q → (fun q => zZ g ≤ q ∧ q < zZ H) q := fun q hq => by
            rw [eFs] at hq
            have := hq.2
            exact ⟨hq.1, by omega⟩
          have agr2 : agF Fs H M2 H M2 := ⟨rfl, rfl, fun _ _ => ⟨rfl, rfl, rfl⟩⟩
          have hls2 := lsR_c hls agH
          have hls3 : lsR (fun q => zZ g ≤ q ∧ q < zZ H) H M2 l (((p, C) :: it).map fun e => e.1) := by
            obtain ⟨k1, k2, k3, k4, d, cap, k5, k6, k7, k8, k9⟩ := hls2
            exact ⟨hF2 l k1, k2, k3, k4, d, cap, k5, k6.imp (hF2 d) id, k7, k8, k9⟩
          have han : (zI M2 w 0).toInt = an.toInt := by rw [eM2, zsR_I, zsI_I, zup_s]
          refine v_all (e0 := (p, C)) (by show zZ g ≤ w ∧ w < zZ H; have := a2.1.2.2.1; omega) Hw han (ho.imp (fun y => ⟨y.1, by rw [y.2]; decide⟩) (fun y => ⟨y.1, by rw [y.2]; decide⟩)) (by rw [eM2, zsR_R, zup_s]) hls3 (fun e he => ?_)
          exact (((d4 e he).mono (Nat.le_refl _) hFs agr).mono (Nat.le_refl _) hF2 agH)
    · right
      exact ⟨fl, pl, r, am _ (by rw [u1]; rfl), pre _ (by rw [u2]; rfl), u3, u4⟩
  · right
    refine ⟨fl, pl, r, ?_, ?_, cX.tr nG nB.1 nB.2 r3 (by omega) (by omega), r4⟩
    · unfold aCh
      rw [r1]; rfl
    · rw [e_xe r2, e_xr (ci := 3) kτ r3.1]
end
