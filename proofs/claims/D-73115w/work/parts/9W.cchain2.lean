/-! COMPONENT READING: chains, whole -/
set_option maxRecDepth 100000
theorem bl_ls {F : Nat → Prop} {g : zGd} {m : zMm} {l : Nat} {xs : List Nat} (h : bl g m l xs) (hl : F l) (hd : ∀ d, zR m l 1 = some d → F d ∨ d < zB g) (hn : xs.length ≤ 1000) : lsR F g m l xs := by
  obtain ⟨h1, h2, h3, h4, d, cap, h5, h6, h7, h8, h9, h10, h11, h12, h13⟩ := h
  exact ⟨hl, h1, h4, hn, d, cap, h5, hd d h5, h8, h9, h12⟩
section
variable {τ ta : Nat} {n kd : Int} {tp : Int → Int} {f1 : tRd} {h1 : aFn} {c1 c2 : Int32} {i1 i2 o1 o2 : Int} {Df : Int → Nat} {s1 e1 s e : Int} {N : Int → Prop}
/-- a new cell, in the world of tokens -/
theorem t_new {g : zGd} {m : zMm} {st : aSt} {k t len : Nat} (h : cS τ ta n tp kd g m st) (hk : k ≤ 60) : cS τ ta n tp kd (zgrow g k t len) (zfresh m (zZ g)) st ∧ cG τ g m (zgrow g k t len) (zfresh m (zZ g)) ∧ tBd g (zgrow g k t len) 1 := by
  have b := cS_b h
  refine ⟨cS_s h tGr.new (fun q hq => ?_), cG.new (fun q hq => zfresh_In m hq) (fun q hq => zfresh_Jn m hq) (fun q hq => zfresh_Rn m hq) b.2.1, tBd.new hk⟩
  have : q ≠ zZ g := by rcases hq with y | y | y <;> omega
  exact ⟨zfresh_In m this, zfresh_Jn m this, zfresh_Rn m this⟩
theorem ch_loop (hb : ∀ i, 0 ≤ i → i < n → 0 ≤ tp i ∧ tp i ≤ 255) (n300 : n ≤ 300) (hf : tFn vS Df s1 e1 N τ ta n tp kd f1 h1) (hc1 : c1.toInt = i1) (hc2 : c2.toInt = i2) (hi : (0 ≤ i1 ∧ i1 < 128) ∧ (0 ≤ i2 ∧ i2 < 128)) (ho1 : sgO i1 = o1) (ho2 : sgO i2 = o2) (s10 : 0 ≤ s1) (se : e1 - s ≤ e + 50) {g0 : zGd} {m0 : zMm} {st0 : aSt} {z c l1 l2 : Nat} {C0 : aC} (hτ : τ < zZ g0) (hta : ta < zZ g0) (hB0 : zB g0 ≤ zZ g0) (hN : N st0.o) : ∀ (k Fu : Nat) (it : List cIt) (F : Nat → Prop) (g : zGd) (m : zMm) (st : aSt), (n - st.p).toNat ≤ k → k < Fu → tCh (Df st0.o) s τ ta n tp kd g0 m0 st0 z c l1 l2 C0 it F g m st →
    (∃ it' F' g' m' st', zLoop (aMo (lx tp n) i1 i2 o1 o2 h1) Fu (chC C0 it, st) = some (.inr (chC C0 it', st')) ∧ zLoop (bChn f1 c1 c2 (some τ) (some z)) Fu (g, m) = some (.inr (g', m')) ∧ tCh (Df st0.o) s τ ta n tp kd g0 m0 st0 z c l1 l2 C0 it' F' g' m' st') ∨
    (∃ fl pl r, zLoop (aMo (lx tp n) i1 i2 o1 o2 h1) Fu (chC C0 it, st) = some (.inl (fl, pl)) ∧ zLoop (bChn f1 c1 c2 (some τ) (some z)) Fu (g, m) = some (.inl (.inr r)) ∧ cX τ g0 m0 (50 * (pl - st0.p) + e) (60 * (50 * (pl - st0.p) + e)) fl pl r ∧ st0.p ≤ pl) := by
  intro k
  induction k with
  | zero =>
    intro Fu it F g m st hk hF h
    obtain ⟨Fu, rfl⟩ : ∃ F', Fu = F' + 1 := ⟨Fu - 1, by omega⟩
    rcases ch_step hb n300 hf hc1 hc2 hi ho1 ho2 s10 se hτ hta hB0 hN h with ⟨u1, u2⟩ | ⟨it', F', g', m', st', u1, u2, u3, u4⟩ | ⟨fl, pl, r, u1, u2, u3, u4⟩
    · exact Or.inl ⟨it, F, g, m, st, zLoop_l u1, zLoop_l u2, h⟩
    · have := u4.1.2.2.1.1
      omega
    · exact Or.inr ⟨fl, pl, r, zLoop_l u1, zLoop_l u2, u3, u4⟩
  | succ k ih =>
    intro Fu it F g m st hk hF h
    obtain ⟨Fu, rfl⟩ : ∃ F', Fu = F' + 1 := ⟨Fu - 1, by omega⟩
    rcases ch_step hb n300 hf hc1 hc2 hi ho1 ho2 s10 se hτ hta hB0 hN h with ⟨u1, u2⟩ | ⟨it', F', g', m', st', u1, u2, u3, u4⟩ | ⟨fl, pl, r, u1, u2, u3, u4⟩
    · exact Or.inl ⟨it, F, g, m, st, zLoop_l u1, zLoop_l u2, h⟩
    · rw [zLoop_r u1, zLoop_r u2]
      exact ih Fu it' F' g' m' st' (by omega) (by omega) u4
    · exact Or.inr ⟨fl, pl, r, zLoop_l u1, zLoop_l u2, u3, u4⟩
theorem ch_all (hb : ∀ i, 0 ≤ i → i < n → 0 ≤ tp i ∧ tp i ≤ 255) (n300 : n ≤ 300) (hf : tFn vS Df s1 e1 N τ ta n tp kd f1 h1) (hc1 : c1.toInt = i1) (hc2 : c2.toInt = i2) (hi : (0 ≤ i1 ∧ i1 < 128) ∧ (0 ≤ i2 ∧ i2 < 128)) (ho1 : sgO i1 = o1) (ho2 : sgO i2 = o2) (s10 : 0 ≤ s1) (se : e1 - s ≤ e + 50) (ss : s ≤ s1 - 3) (ee : e1 + 1 ≤ e) : tFn vS (fun o => Df o + 1) s e N τ ta n tp kd (qChn f1 c1 c2) (aCh (lx tp n) i1 i2 o1 o2 h1) := by
  intro g m st hS hv hN
  have s6 : zSl 6 = 3 := rfl
  have bS := cS_b hS
  obtain ⟨nS, nG, nB⟩ := t_new (k := zSl 6) (t := 7) (len := 0) hS (by omega)
  obtain ⟨z, ez⟩ : ∃ z, z = zZ g := ⟨_, rfl⟩
  obtain ⟨G, eG⟩ : ∃ G, G = zgrow g (zSl 6) 7 0 := ⟨_, rfl⟩
  obtain ⟨A, eA⟩ : ∃ A, A = zfresh m z := ⟨_, rfl⟩
  rw [← ez, ← eG, ← eA] at nS nG
  rw [← eG] at nB
  have Gz : zK G z = (7, 0) := by rw [eG, ez, zgrow_Ks]
  have GZ : zZ G = z + 1 := by rw [eG, ez, zgrow_Z]
  have hq : qChn f1 c1 c2 g m (some τ) = zXd G 3 (some τ) (f1 G A (some τ)) (fun (q7, g8, m9) => some (.inr (q7, g8, m9))) fun (r4, g5, m6) => zob (some z) ((f_X6_init g5 m6 (some z) r4).bind fun (g10, m11) => zEx (σ := zGd × zMm) (zLoop (bChn f1 c1 c2 (some τ) (some z)) zFuel (g10, m11)) fun (g13, m14) => (zrc g13 6 (some z) (f_X6_itself g13 m14 (some z))).bind fun r32 => some (.inl (r32, g13, m14))) := by
    rw [eG, eA, ez]; rfl
  rw [hq]
  have kτ := cS_k nS
  rcases hf G A st nS hv hN with ⟨C, st', p, g2, m2, r1, r2, r3, r4, r5, r6, r7, r8, r9⟩ | ⟨fl, pl, r, r1, r2, r3, r4⟩
  · have g2g := r4.gr
    have hz2 := g2g.1.2.2.1
    have kz2 : (zK g2 z).1 = 7 := by rw [g2g.2 z (by omega), Gz]
    have hBG : zB G = zB g := nG.1.1
    have hB2 : zB g2 = zB g := by rw [g2g.1.1, hBG]
    obtain ⟨g3, m3, e3, t1, t2, t3, t4, t5, G3, S3, t6, t7, t8, t9⟩ := t_ch0 (c := p) r3.2.2 (cS_b r3).2.2.2 kz2 (by omega) (by omega)
    have hB3 : zB g3 = zB g := by rw [G3.1.1, hB2]
    have gg2 : cG τ g m g2 m2 := nG.tr r4
    have gg3 : cG τ g m g3 m3 := gg2.st G3 (S3.wk fun q hq => by omega) (by omega)
    have cS3 : cS τ ta n tp kd g3 m3 st' := cS_s r3 G3 (S3.wk fun q hq => by rcases hq with y | y | y <;> omega)
    have ag23 : agF (fun q => zZ G ≤ q ∧ q < zZ g2) g2 m2 g3 m3 := agF_s G3 (S3.wk fun q hq => by
      rcases hq with y | y <;> omega) (fun q hq => hq.2) (by omega)
    have inv : tCh (Df st.o) s τ ta n tp kd g m st z p (zZ g2) (zZ g2 + 1) C [] (fun q => zZ G ≤ q ∧ q < zZ g2) g3 m3 st' := by
      refine ⟨⟨cS3, gg3, r6, r7, r8, ?_, ?_⟩, ⟨?_, by omega, by omega, by omega, t1, t2, t3⟩, ⟨t4, t5, by omega, by omega, by omega⟩, ⟨fun d hd => ?_, fun d hd => ?_, fun d hd _ => ?_⟩, ⟨?_, fun e he => absurd he List.not_mem_nil⟩, ?_, ?_, ?_, fun q hq => ?_⟩
      · have := hv.1; show ((0 : Nat) : Int) < st'.p; omega
      · exact (nB.tr r9 (Int.le_refl _)).tr t6 (by omega)
      · rw [G3.2 z (by omega)]; exact kz2
      · have := t7 d hd
        refine ⟨by omega, fun y => ?_⟩
        have := y.1
        omega
      · have := t8 d hd
        refine ⟨by omega, fun y => ?_⟩
        have := y.1
        omega
      · have := t7 d hd; omega
      · exact r5.mono (Nat.le_refl _) (fun _ y => y) ag23
      · exact fun y => by have := y.1; omega
      · exact fun y => by have := y.2; omega
      · exact fun y => by have := y.2; omega
      · omega
    have pre : ∀ Y, (zEx (σ := zGd × zMm) (zLoop (bChn f1 c1 c2 (some τ) (some z)) zFuel (g3, m3)) fun (g13, m14) => (zrc g13 6 (some z) (f_X6_itself g13 m14 (some z))).bind fun r32 => some (.inl (r32, g13, m14)) : Option tRes) = Y → zXd G 3 (some τ) (f1 G A (some τ)) (fun (q7, g8, m9) => some (.inr (q7, g8, m9))) (fun (r4, g5, m6) => zob (some z) ((f_X6_init g5 m6 (some z) r4).bind fun (g10, m11) => zEx (σ := zGd × zMm) (zLoop (bChn f1 c1 c2 (some τ) (some z)) zFuel (g10, m11)) fun (g13, m14) => (zrc g13 6 (some z) (f_X6_itself g13 m14 (some z))).bind fun r32 => (some (.inl (r32, g13, m14)) : Option tRes))) = Y := fun Y hY => by
      rw [e_xe r2, e_xl (ci := 3) kτ]
      have e3' : f_X6_init g2 m2 (some z) (some p) = some (g3, m3) := e3
      show ((f_X6_init g2 m2 (some z) (some p)).bind _) = _
      rw [e3']
      exact hY
    have am : ∀ Y, (zLoop (aMo (lx tp n) i1 i2 o1 o2 h1) zFuel (chC C [], st')).bind (fun y => some (aLp y)) = Y → aCh (lx tp n) i1 i2 o1 o2 h1 st = Y := fun Y hY => by
      unfold aCh
      rw [r1]
      exact hY
    rcases ch_loop hb n300 hf hc1 hc2 hi ho1 ho2 s10 se (by omega) (by omega) bS.2.2.2 hN 300 zFuel [] _ g3 m3 st' (by have := r6.1; omega) (by unfold zFuel; omega) inv with ⟨it, F, g4, m4, s4, u1, u2, u3⟩ | ⟨fl, pl, r, u1, u2, u3, u4⟩
    · left
      obtain ⟨⟨a1, a2, a3, a4, a5, a6, a7⟩, ⟨b1, b2, b3, b4, b5, b6, b7⟩, ⟨d1, d2, d3, d4, d5⟩, ⟨x1, x2, x3⟩, ⟨y1, y2⟩, z1, z2, z3, z4⟩ := u3
      have hlen : it.length ≤ 300 := by have := a3.1; omega
      obtain ⟨Fs, eFs⟩ : ∃ Fs : Nat → Prop, Fs = fun q => zZ g ≤ q ∧ q < zZ g4 := ⟨_, rfl⟩
      have hFs : ∀ q, F q → Fs q := fun q hq => by rw [eFs]; exact z4 q hq
      have agr : agF F g4 m4 g4 m4 := ⟨rfl, rfl, fun _ _ => ⟨rfl, rfl, rfl⟩⟩
      have hem : f_X6_itself g4 m4 (some z) = some (some (if it = [] then p else z)) := by
        unfold f_X6_itself
        rw [e_gr (ci := 6) b1, b6, Option.bind_some, e_rc (ci := 17) d1.1]
        unfold f_J2_isEmpty
        rw [e_gi (ci := 17) d1.1, Option.bind_some]
        have q0 := i_eq d1.2.2.2.1 (show (0 : Int32).toInt = 0 by decide)
        by_cases c : it = []
        · rw [if_pos c, if_pos (q0.mpr (by rw [c]; rfl)), Option.bind_some, if_neg (by decide), e_gr (ci := 6) b1, b5]; rfl
        · rw [if_neg c, if_neg (fun y => c (by
            have := q0.mp y
            rw [List.length_map] at this
            exact List.length_eq_zero_iff.mp (by omega))), Option.bind_some, if_pos rfl]
      refine ⟨chC C it, s4, (if it = [] then p else z), g4, m4, am _ (by rw [u1]; rfl), pre _ ?_, a1, a2, ?_, a3, a4, a5, a7⟩
      · rw [u2]
        show ((zrc g4 6 (some z) (f_X6_itself g4 m4 (some z))).bind _) = _
        rw [e_rc (ci := 6) b1, hem]; rfl
      · rw [← eFs]
        by_cases c : it = []
        · rw [if_pos c, c]
          exact y1.mono (Nat.le_succ (Df st.o)) hFs agr
        · rw [if_neg c]
          refine v_chain (y1.mono (Nat.le_refl _) hFs agr) (by rw [eFs]; omega) b1 b5 b6 b7 (bl_ls d1 (by rw [eFs]; exact ⟨d3, d1.2.2.1⟩) (fun d hd => ?_) (by rw [List.length_map]; omega)) (bl_ls d2 (by rw [eFs]; exact ⟨d4, d2.2.2.1⟩) (fun d hd => ?_) (by rw [List.length_map]; omega)) (fun e he => (y2 e he).mono (Nat.le_refl _) hFs agr)
          · have w1 := (x1 d hd).1
            have w2 := (bl_d d1 hd).1
            rw [eFs]
            omega
          · have w1 := (x2 d hd).1
            have w2 := (bl_d d2 hd).1
            rw [eFs]
            omega
    · right
      exact ⟨fl, pl, r, am _ (by rw [u1]; rfl), pre _ (by rw [u2]; rfl), u3, u4⟩
  · right
    refine ⟨fl, pl, r, ?_, ?_, cX.tr nG nB.1 nB.2 r3 (by omega) (by omega), r4⟩
    · unfold aCh
      rw [r1]; rfl
    · rw [e_xe r2, e_xr (ci := 3) kτ r3.1]
end
