/-! COMPONENT READING: an asking is read -/
set_option maxRecDepth 100000
def dO (o : Int) : Nat := (56 - 7 * o).toNat
theorem aCm_i {s : Int} : aCm s = -1 ↔ ¬ (s = 60 ∨ s = 62 ∨ s = 61 ∨ s = 35 ∨ s = 303 ∨ s = 304) := by
  unfold aCm
  constructor
  · intro h
    repeat' split at h
    all_goals omega
  · intro h
    rw [if_neg (by omega), if_neg (by omega), if_neg (by omega), if_neg (by omega), if_neg (by omega), if_neg (by omega)]
theorem agF_g {τ : Nat} {F : Nat → Prop} {g g' : zGd} {m m' : zMm} (h : cG τ g m g' m') (hF : ∀ q, F q → q < zZ g ∧ q ≠ τ) (hb : zB g ≤ τ) (hz : zB g ≤ zZ g) : agF F g m g' m' :=
  agF_s h.gr (h.sm.wk fun q hq => by
    rcases hq with y | y
    · exact hF q y
    · omega) (fun q hq => (hF q hq).1) hz
section
variable {τ ta : Nat} {n kd : Int} {tp : Int → Int} {g g0 : zGd} {m m0 M : zMm} {st : aSt} {w : Nat}
/-- a new cell is written -/
theorem t_wri (hS : cS τ ta n tp kd g m st) (h0 : cG τ g0 m0 g m) (hw : zZ g0 ≤ w) (hτ : τ < zZ g0) (hta : ta < zZ g0) (hB : zB g0 ≤ zZ g0) (hs : tSm (fun q => q ≠ w) m M) : cS τ ta n tp kd g M st ∧ cG τ g0 m0 g M ∧ ∀ F : Nat → Prop, ¬ F w → agF F g m g M := by
  have hb : zB g = zB g0 := h0.1.1
  refine ⟨cS_s hS tGr.rf (hs.wk fun q hq => by rcases hq with y | y | y <;> omega), h0.st tGr.rf (hs.wk fun q hq => by omega) hτ, fun F hF => ⟨rfl, rfl, fun q hq => ?_⟩⟩
  have : q ≠ w := by
    rcases hq with y | y
    · exact fun u => hF (u ▸ y)
    · omega
  exact ⟨rfl, (hs q this).1, (hs q this).2.2⟩
theorem tOut.tr {g1 : zGd} {m1 : zMm} {s1 : aSt} {X X' : Option aX} {Y Y' : Option tRes} {e e' k : Int} (h : cG τ g m g1 m1) (hk : tBd g g1 k) (ho : tOut e' τ g1 m1 s1 X' Y') (hX : ∀ q, X' = some (.inr q) → X = some (.inr q)) (hY : ∀ r, (zK r.2.1 r.1).1 = 6 → Y' = some (.inr r) → Y = some (.inr r)) (hp : st.p ≤ s1.p) (he : k + e' ≤ 50 * (s1.p - st.p) + e) : tOut e τ g m st X Y := by
  obtain ⟨fl, pl, r, r1, r2, r3, r4⟩ := ho
  exact ⟨fl, pl, r, hX _ r1, hY r r3.1 r2, cX.tr h hk.1 hk.2 r3 (by omega) (by omega), by omega⟩
theorem dO_s {o : Int} (h0 : 0 ≤ o) (h : o < 8) : dO (o + 1) + 7 = dO o := by
  unfold dO; omega
end
section
variable {τ ta : Nat} {n kd : Int} {tp : Int → Int} {d : Nat}
theorem c_shutI {g : zGd} {m : zMm} {st : aSt} (hS : cS τ ta n tp kd g m st) (ho : 0 ≤ st.o ∧ st.o ≤ 8) : ∃ m', (∀ (α : Type) (K : zMm → Option α), ((zgi g m 3 6 (some τ)).bind fun v => (zpi g m 3 6 (some τ) (v - (1 : Int32))).bind fun m' => K m') = K m') ∧ cS τ ta n tp kd g m' (aSh st) ∧ cG τ g m g m' := by
  obtain ⟨h1, h2, h3⟩ := c_shut hS ho
  refine ⟨_, fun α K => ?_, h3, cG.tk tkF.up⟩
  rw [h1, Option.bind_some, h2, Option.bind_some]
abbrev tTb : Type := tRd × tRd × tRd × tRd × tRd × tRd × tRd
theorem t_ask (hb : ∀ i, 0 ≤ i → i < n → 0 ≤ tp i ∧ tp i ≤ 255) (n300 : n ≤ 300) {rc : tTb} {rec : aTb} (hA : tFn vA (fun o => dO o + 4) 28 25 (fun o => dO o + 5 ≤ d) τ ta n tp kd rc.1 rec.1) (hS : tFn vS (fun o => dO o + 3) 30 20 (fun o => dO o + 4 ≤ d) τ ta n tp kd rc.2.2.2.2.2.2 rec.2.2.2.2.2.2) : tFn vA (fun o => dO o + 4) 28 25 (fun o => dO o + 5 ≤ d + 1) τ ta n tp kd (q_X3_ask rc) (aAsk (lx tp n) rec) := by
  intro g m st h0 hv hN
  have hN : dO st.o + 5 ≤ d + 1 := hN
  have b0 := cS_b h0
  have kτ := cS_k h0
  have hs := i_eq h0.2.1.2.2.1 (show (219 : Int32).toInt = 219 by decide)
  by_cases w : st.s = 219
  · -- not
    have hpa : st.p < st.a := hv.2.1 (by omega)
    have em : aAsk (lx tp n) rec st = aB (aOp (lx tp n) st) fun s1 => (rec.1 s1).bind fun r => aB r fun x => some (.inl (x.1 ++ [(20, 0)], aSh x.2)) := if_pos w
    have ec : q_X3_ask rc g m (some τ) = zXd g 3 (some τ) (f_X3_opens g m (some τ)) (fun (q28, g29, m30) => some (.inr (q28, g29, m30))) fun (_, g26, m27) =>
        zXd (zgrow g26 (zSl 8) 9 0) 3 (some τ) (rc.1 (zgrow g26 (zSl 8) 9 0) (zfresh m27 (zZ g26)) (some τ)) (fun (q37, g38, m39) => some (.inr (q37, g38, m39))) fun (r34, g35, m36) =>
        ((f_X8_init g35 m36 (some (zZ g26)) r34).bind fun m40 => (zgi g35 m40 3 6 (some τ)).bind fun v41 => (zpi g35 m40 3 6 (some τ) (v41 - (1 : Int32))).bind fun m42 => some (.inl (some (zZ g26), g35, m42))) := by
      unfold q_X3_ask
      rw [e_gi (ci := 3) kτ, Option.bind_some, if_pos (hs.mpr w)]
      rfl
    rw [em, ec]
    rcases c_opens hb n300 h0 hv with ⟨s1, m1, o1, o2, o3, o4, o5, o6, o7⟩ | ⟨r, o1, o2, o3⟩
    · obtain ⟨t1, t2, t3⟩ := vN (tp := tp) (n := n) (st := (st.s, st.n, st.p, st.a, st.o + 1)) ⟨hv.1, hv.2.1, by show 0 ≤ st.o + 1 ∧ st.o + 1 ≤ 8; have := hv.2.2; omega⟩
      rw [← o7] at t1 t2 t3
      have t2 : st.a ≤ s1.p := t2
      have hdo := dO_s hv.2.2.1 o6
      rw [o1, o2, e_xl (ci := 3) kτ]
      obtain ⟨nS, nG, nB⟩ := t_new (k := zSl 8) (t := 9) (len := 0) o4 (by decide)
      obtain ⟨z, ez⟩ : ∃ z, z = zZ g := ⟨_, rfl⟩
      obtain ⟨G, eG⟩ : ∃ G, G = zgrow g (zSl 8) 9 0 := ⟨_, rfl⟩
      obtain ⟨A, eA⟩ : ∃ A, A = zfresh m1 z := ⟨_, rfl⟩
      have Gz : zK G z = (9, 0) := by rw [eG, ez, zgrow_Ks]
      have GZ : zZ G = z + 1 := by rw [eG, ez, zgrow_Z]
      show tIn vA _ _ τ ta n tp kd g m st (aB (.inl s1) _) (zXd (zgrow g (zSl 8) 9 0) 3 (some τ) (rc.1 (zgrow g (zSl 8) 9 0) (zfresh m1 (zZ g)) (some τ)) _ fun (r34, g35, m36) => ((f_X8_init g35 m36 (some (zZ g)) r34).bind _)) ∨ tOut _ τ g m st (aB (.inl s1) _) (zXd (zgrow g (zSl 8) 9 0) 3 (some τ) (rc.1 (zgrow g (zSl 8) 9 0) (zfresh m1 (zZ g)) (some τ)) _ fun (r34, g35, m36) => ((f_X8_init g35 m36 (some (zZ g)) r34).bind _))
      rw [← ez, ← eG, ← eA]
      rw [← ez, ← eG, ← eA] at nS nG
      rw [← eG] at nB
      have kG := cS_k nS
      have hG : cG τ g m G A := (cG.tk o3).tr nG
      rcases hA G A s1 nS t1 (by show dO s1.o + 5 ≤ d; rw [o5]; omega) with ⟨C, st', p, g2, m2, r1, r2, r3, r4, r5, r6, r7, r8, r9⟩ | ho
      · left
        have hz2 := r4.gr.1.2.2.1
        have kz2 : (zK g2 z).1 = 8 + 1 := by rw [r4.gr.2 z (by omega), Gz]
        have hB2 : zB g2 ≤ z := by rw [r4.1.1, hG.1.1]; omega
        obtain ⟨M, eM⟩ : ∃ M, M = zsR m2 z 0 (some p) := ⟨_, rfl⟩
        have sM : tSm (fun q => q ≠ z) m2 M := fun q hq => by
          rw [eM, zsR_I, zsR_J, zsR_R, zup_r _ _ hq]; exact ⟨rfl, rfl, rfl⟩
        obtain ⟨wS, wG, wF⟩ := t_wri r3 (hG.tr r4) (by omega) b0.2.1 b0.2.2.1 b0.2.2.2 sM
        obtain ⟨M3, s1e, s2e, s3e⟩ := c_shutI wS (by have := r6.2.2; exact this)
        have hx : f_X8_init g2 m2 (some z) (some p) = some M := by
          show ((f_J10_init g2 m2 (some z)).bind fun _ => (zpr g2 m2 8 0 (some z) (some p)).bind fun m1 => some m1) = _
          rw [show f_J10_init g2 m2 (some z) = some () from rfl, Option.bind_some, e_pr (ci := 8) kz2 hB2, eM]; rfl
        have o8 : (aSh st').o = st.o := by show st'.o - 1 = st.o; omega
        refine ⟨C ++ [(20, 0)], aSh st', z, g2, M3, ?_, ?_, s2e, wG.tr s3e, ?_, ⟨r6.1, r6.2.1, by rw [o8]; exact hv.2.2⟩, by show st.p < st'.p; omega, o8, (nB.tr r9 (Int.le_refl _)).tr (tBd.rf (Int.le_refl 0)) (by show _ ≤ 50 * (st'.p - st.p) - 28; omega)⟩
        · show ((rec.1 s1).bind _) = _
          rw [r1]; rfl
        · rw [e_xe r2, e_xl (ci := 3) kG]
          show ((f_X8_init g2 m2 (some z) (some p)).bind _) = _
          rw [hx, Option.bind_some]
          exact s1e _ _
        · have h5 : vA (dO s1.o + 4) (fun q => zZ g ≤ q ∧ q < zZ g2) g2 M p C := r5.mono (F := fun q => zZ G ≤ q ∧ q < zZ g2) (Nat.le_refl _) (fun q hq => by have := hq.1; have := hq.2; exact ⟨by omega, by omega⟩) (wF _ (fun y => by have := y.1; omega))
          have h6 : vA (dO s1.o + 4 + 1) (fun q => zZ g ≤ q ∧ q < zZ g2) g2 M z (C ++ [(20, 0)]) := v_not h5 ⟨by omega, by omega⟩ kz2 (by rw [eM, zsR_R, zup_s])
          exact h6.mono (by rw [o5]; show dO (st.o + 1) + 4 + 1 ≤ dO st.o + 4; omega) (fun _ y => y) (agF_g s3e (fun q hq => by have := hq.1; have := hq.2; omega) (by have := cS_b wS; omega) (cS_b wS).2.2.2)
      · right
        refine tOut.tr hG (k := 1) ((tBd.rf (k := 0) (Int.le_refl 0)).tr nB (by omega)) ho (fun q hq => ?_) (fun r hr hq => ?_) (by omega) (by omega)
        · show ((rec.1 s1).bind _) = _
          rw [hq]; rfl
        · rw [e_xe hq, e_xr (ci := 3) kG hr]
    · right
      refine ⟨3, st.p, r, by rw [o1]; rfl, ?_, o3.wk (by omega) (by omega), by omega⟩
      rw [o2, e_xr (ci := 3) kτ o3.1]
  · -- two sums compared
    have em : aAsk (lx tp n) rec st = (rec.2.2.2.2.2.2 st).bind fun r => aB r fun x => if aCm x.2.s = -1 then some (.inr (1, x.2.p)) else (rec.2.2.2.2.2.2 (aNx (lx tp n) x.2)).bind fun r2 => aB r2 fun y => some (.inl (x.1 ++ y.1 ++ [(aCm x.2.s, 0)], y.2)) := if_neg w
    have ec : q_X3_ask rc g m (some τ) = zXd g 3 (some τ) (rc.2.2.2.2.2.2 g m (some τ)) (fun (q5, g6, m7) => some (.inr (q5, g6, m7))) fun (r2, g3, m4) =>
        (zgi g3 m4 3 4 (some τ)).bind fun v8 =>
        zEx (σ := Unit) (if v8 = (60 : Int32) then (some (.inr ()))
        else (if v8 = (62 : Int32) then (some (.inr ()))
        else (if v8 = (61 : Int32) then (some (.inr ()))
        else (if v8 = (35 : Int32) then (some (.inr ()))
        else (if v8 = (303 : Int32) then (some (.inr ()))
        else (if v8 = (304 : Int32) then (some (.inr ()))
        else ((zrc g3 3 (some τ) (f_X3_wrong g3 m4 (some τ) (1 : Int32))).bind fun (r10, g11, m12) =>
        (zthr g11 r10).bind fun q13 =>
        some (.inl (.inr (q13, g11, m12)))))))))) fun _ =>
        (zrc g3 3 (some τ) (f_X3_next g3 m4 (some τ))).bind fun (g14, m15) =>
        zXd (zgrow g14 (zSl 9) 10 0) 3 (some τ) (rc.2.2.2.2.2.2 (zgrow g14 (zSl 9) 10 0) (zfresh m15 (zZ g14)) (some τ)) (fun (q22, g23, m24) => some (.inr (q22, g23, m24))) fun (r19, g20, m21) =>
        ((f_X9_init g20 m21 (some (zZ g14)) v8 r2 r19).bind fun m25 => some (.inl (some (zZ g14), g20, m25))) := by
      unfold q_X3_ask
      rw [e_gi (ci := 3) kτ, Option.bind_some, if_neg (fun y => w (hs.mp y))]
      rfl
    rw [em, ec]
    rcases hS g m st h0 hv (by show dO st.o + 4 ≤ d; omega) with ⟨C1, s1, p1, g1, m1, r1, r2, r3, r4, r5, r6, r7, r8, r9⟩ | ho
    · rw [r1, e_xe r2, e_xl (ci := 3) kτ]
      have k1 := cS_k r3
      have v8 := r3.2.1.2.2.1
      have q60 := i_eq v8 (show (60 : Int32).toInt = 60 by decide)
      have q62 := i_eq v8 (show (62 : Int32).toInt = 62 by decide)
      have q61 := i_eq v8 (show (61 : Int32).toInt = 61 by decide)
      have q35 := i_eq v8 (show (35 : Int32).toInt = 35 by decide)
      have q303 := i_eq v8 (show (303 : Int32).toInt = 303 by decide)
      have q304 := i_eq v8 (show (304 : Int32).toInt = 304 by decide)
      obtain ⟨Q, eQ⟩ : ∃ Q : Option tRes, Q = ((zrc g1 3 (some τ) (f_X3_next g1 m1 (some τ))).bind fun (g14, m15) =>
        zXd (zgrow g14 (zSl 9) 10 0) 3 (some τ) (rc.2.2.2.2.2.2 (zgrow g14 (zSl 9) 10 0) (zfresh m15 (zZ g14)) (some τ)) (fun (q22, g23, m24) => some (.inr (q22, g23, m24))) fun (r19, g20, m21) =>
        ((f_X9_init g20 m21 (some (zZ g14)) (zI m1 τ 4) (some p1) r19).bind fun m25 => some (.inl (some (zZ g14), g20, m25)))) := ⟨_, rfl⟩
      obtain ⟨r, e5, x5⟩ := c_wrong r3 (f := 1) (fi := 1) (by decide)
      have e6 := e5 (tRes ⊕ Unit) (fun q g1 m1 => some (.inl (.inr (q, g1, m1))))
      have hif : ∀ (α : Type) (x y : α), (if zI m1 τ 4 = (60 : Int32) then x else if zI m1 τ 4 = (62 : Int32) then x else if zI m1 τ 4 = (61 : Int32) then x else if zI m1 τ 4 = (35 : Int32) then x else if zI m1 τ 4 = (303 : Int32) then x else if zI m1 τ 4 = (304 : Int32) then x else y) = if aCm s1.s = -1 then y else x := fun α x y => by
        simp only [q60, q62, q61, q35, q303, q304]
        by_cases u : aCm s1.s = -1
        · have k := aCm_i.mp u
          rw [if_pos u, if_neg (by omega), if_neg (by omega), if_neg (by omega), if_neg (by omega), if_neg (by omega), if_neg (by omega)]
        · have k : s1.s = 60 ∨ s1.s = 62 ∨ s1.s = 61 ∨ s1.s = 35 ∨ s1.s = 303 ∨ s1.s = 304 := Decidable.byContradiction fun h => u (aCm_i.mpr h)
          rw [if_neg u]
          repeat' split
          all_goals first | rfl | (exfalso; omega)
      have tl : ∀ Y, (if aCm s1.s = -1 then some (.inr r) else Q) = Y → ((zgi g1 m1 3 4 (some τ)).bind fun v8 =>
        zEx (σ := Unit) (if v8 = (60 : Int32) then (some (.inr ()))
        else (if v8 = (62 : Int32) then (some (.inr ()))
        else (if v8 = (61 : Int32) then (some (.inr ()))
        else (if v8 = (35 : Int32) then (some (.inr ()))
        else (if v8 = (303 : Int32) then (some (.inr ()))
        else (if v8 = (304 : Int32) then (some (.inr ()))
        else ((zrc g1 3 (some τ) (f_X3_wrong g1 m1 (some τ) (1 : Int32))).bind fun (r10, g11, m12) =>
        (zthr g11 r10).bind fun q13 =>
        some (.inl (.inr (q13, g11, m12)))))))))) fun _ =>
        (zrc g1 3 (some τ) (f_X3_next g1 m1 (some τ))).bind fun (g14, m15) =>
        zXd (zgrow g14 (zSl 9) 10 0) 3 (some τ) (rc.2.2.2.2.2.2 (zgrow g14 (zSl 9) 10 0) (zfresh m15 (zZ g14)) (some τ)) (fun (q22, g23, m24) => some (.inr (q22, g23, m24))) fun (r19, g20, m21) =>
        ((f_X9_init g20 m21 (some (zZ g14)) v8 (some p1) r19).bind fun m25 => some (.inl (some (zZ g14), g20, m25))) : Option tRes) = Y := fun Y hY => by
        rw [e_gi (ci := 3) k1, Option.bind_some, hif]
        by_cases u : aCm s1.s = -1
        · rw [if_pos u] at hY ⊢
          rw [e6]
          exact hY
        · rw [if_neg u] at hY ⊢
          rw [← hY, eQ]
          rfl
      have g1z := r4.1.2.2.1
      by_cases u : aCm s1.s = -1
      · right
        refine ⟨1, s1.p, r, ?_, tl _ (if_pos u), cX.tr r4 r9.1 r9.2 x5 (by omega) (by omega), by omega⟩
        show (if aCm s1.s = -1 then _ else _) = _
        rw [if_pos u]
      · show tIn vA _ _ τ ta n tp kd g m st _ ((zgi g1 m1 3 4 (some τ)).bind _) ∨ tOut _ τ g m st _ ((zgi g1 m1 3 4 (some τ)).bind _)
        rw [tl _ (if_neg u)]
        have e7 : ((some (Sum.inl (C1, s1)) : Option aX).bind fun r => aB r fun x => if aCm x.2.s = -1 then some (.inr (1, x.2.p)) else (rec.2.2.2.2.2.2 (aNx (lx tp n) x.2)).bind fun r2 => aB r2 fun y => some (.inl (x.1 ++ y.1 ++ [(aCm x.2.s, 0)], y.2)) : Option aX) = (rec.2.2.2.2.2.2 (aNx (lx tp n) s1)).bind fun r2 => aB r2 fun y => some (.inl (C1 ++ y.1 ++ [(aCm s1.s, 0)], y.2)) := by
          show (if aCm s1.s = -1 then _ else _) = _
          rw [if_neg u]
        rw [e7]
        have h301 : s1.s ≠ 301 := fun y => u (aCm_i.mpr (by omega))
        have hpa := r6.2.1 h301
        obtain ⟨m2, en, fn, hS2⟩ := cS_next hb n300 r3 r6
        obtain ⟨v1, v2, v3⟩ := vN (tp := tp) r6
        obtain ⟨s2, es2⟩ : ∃ s2, s2 = aNx (lx tp n) s1 := ⟨_, rfl⟩
        rw [← es2] at hS2 v1 v2 v3 ⊢
        obtain ⟨nS, nG, nB⟩ := t_new (k := zSl 9) (t := 10) (len := 0) hS2 (by decide)
        obtain ⟨z, ez⟩ : ∃ z, z = zZ g1 := ⟨_, rfl⟩
        obtain ⟨G, eG⟩ : ∃ G, G = zgrow g1 (zSl 9) 10 0 := ⟨_, rfl⟩
        obtain ⟨A, eA⟩ : ∃ A, A = zfresh m2 z := ⟨_, rfl⟩
        have Gz : zK G z = (10, 0) := by rw [eG, ez, zgrow_Ks]
        have GZ : zZ G = z + 1 := by rw [eG, ez, zgrow_Z]
        have hQ : Q = zXd G 3 (some τ) (rc.2.2.2.2.2.2 G A (some τ)) (fun (q22, g23, m24) => some (.inr (q22, g23, m24))) fun (r19, g20, m21) => ((f_X9_init g20 m21 (some z) (zI m1 τ 4) (some p1) r19).bind fun m25 => some (.inl (some z, g20, m25))) := by
          rw [eQ, e_rc (ci := 3) k1, en, eG, eA, ez]
          rfl
        rw [hQ]
        rw [← ez, ← eG, ← eA] at nS nG
        rw [← eG] at nB
        have kG := cS_k nS
        have h1G : cG τ g1 m1 G A := (cG.tk fn).tr nG
        have hG : cG τ g m G A := r4.tr h1G
        have tB1 : tBd g G (50 * (s1.p - st.p) - 29) := r9.tr nB (by omega)
        rcases hS G A s2 nS v1 (by show dO s2.o + 4 ≤ d; rw [v3, r8]; omega) with ⟨C2, s3, p2, g3, m3, y1, y2, y3, y4, y5, y6, y7, y8, y9⟩ | ho
        · left
          have hz3 := y4.gr.1.2.2.1
          have kz3 : (zK g3 z).1 = 9 + 1 := by rw [y4.gr.2 z (by omega), Gz]
          have hB3 : zB g3 ≤ z := by rw [y4.1.1, hG.1.1]; omega
          obtain ⟨M, eM⟩ : ∃ M, M = zsR (zsR (zsI m3 z 0 (zI m1 τ 4)) z 1 (some p1)) z 2 (some p2) := ⟨_, rfl⟩
          have sM : tSm (fun q => q ≠ z) m3 M := fun q hq => by
            rw [eM, zsR_I, zsR_J, zsR_R, zsR_I, zsR_J, zsR_R, zsI_I, zsI_J, zsI_R, zup_r _ _ hq, zup_r _ _ hq, zup_r _ _ hq]; exact ⟨rfl, rfl, rfl⟩
          obtain ⟨wS, wG, wF⟩ := t_wri y3 (hG.tr y4) (by omega) b0.2.1 b0.2.2.1 b0.2.2.2 sM
          have hx : f_X9_init g3 m3 (some z) (zI m1 τ 4) (some p1) (some p2) = some M := by
            show ((f_J10_init g3 m3 (some z)).bind fun _ => (zpi g3 m3 9 0 (some z) (zI m1 τ 4)).bind fun m1 => (zpr g3 m1 9 1 (some z) (some p1)).bind fun m2 => (zpr g3 m2 9 2 (some z) (some p2)).bind fun m3 => some m3) = _
            rw [show f_J10_init g3 m3 (some z) = some () from rfl, Option.bind_some, e_pi (ci := 9) kz3 hB3, Option.bind_some, e_pr (ci := 9) kz3 hB3, Option.bind_some, e_pr (ci := 9) kz3 hB3, eM]; rfl
          have b1 := cS_b r3
          have h13 : agF (fun q => zZ g ≤ q ∧ q < zZ g1) g1 m1 g3 m3 := agF_g (h1G.tr y4) (fun q hq => by have := hq.1; have := hq.2; omega) b1.1 b1.2.2.2
          have x1 : vS (dO st.o + 3) (fun q => zZ g ≤ q ∧ q < zZ g3) g3 M p1 C1 := (r5.mono (Nat.le_refl _) (fun _ y => y) h13).mono (Nat.le_refl _) (fun q hq => by have := hq.1; have := hq.2; exact ⟨by omega, by omega⟩) (wF _ (fun y => by have := y.2; omega))
          rw [v3, r8] at y5
          have x2 : vS (dO st.o + 3) (fun q => zZ g ≤ q ∧ q < zZ g3) g3 M p2 C2 := y5.mono (F := fun q => zZ G ≤ q ∧ q < zZ g3) (Nat.le_refl _) (fun q hq => by have := hq.1; have := hq.2; exact ⟨by omega, by omega⟩) (wF _ (fun y => by have := y.1; omega))
          refine ⟨C1 ++ C2 ++ [(aCm s1.s, 0)], s3, z, g3, M, by rw [y1]; rfl, ?_, wS, wG, ?_, y6, by omega, by omega, tB1.tr y9 (by omega)⟩
          · rw [e_xe y2, e_xl (ci := 3) kG]
            show ((f_X9_init g3 m3 (some z) (zI m1 τ 4) (some p1) (some p2)).bind _) = _
            rw [hx]; rfl
          · exact v_cmp x1 x2 ⟨by omega, by omega⟩ kz3 (s := s1.s) (by rw [eM, zsR_I, zsR_I, zsI_I, zup_s]; exact v8) u (by rw [eM, zsR_R, zup_k _ _ (by omega), zsR_R, zup_s]) (by rw [eM, zsR_R, zup_s])
        · right
          refine tOut.tr hG tB1 ho (fun q hq => by rw [hq]; rfl) (fun r hr hq => ?_) (by omega) (by omega)
          rw [e_xe hq, e_xr (ci := 3) kG hr]
    · right
      refine tOut.tr cG.rf (tBd.rf (k := 0) (Int.le_refl 0)) ho (fun q hq => by rw [hq]; rfl) (fun r hr hq => ?_) (by omega) (by omega)
      rw [e_xe hq, e_xr (ci := 3) kτ hr]
end
