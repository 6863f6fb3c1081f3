/-! COMPONENT READING: one is read -/
set_option maxRecDepth 100000
section
variable {τ ta : Nat} {n kd : Int} {tp : Int → Int} {d : Nat}
theorem aNm_g {s : Int} (h : aNm s ≠ -1) : 0 ≤ aNm s ∧ aNm s ≤ 6 ∧ s ≠ 301 := by
  unfold aNm at *
  repeat' split at h
  all_goals first | (exfalso; exact h rfl) | skip
  all_goals (repeat' split)
  all_goals omega
/-- a number or a name in a new cell -/
theorem t_one1 (hb : ∀ i, 0 ≤ i → i < n → 0 ≤ tp i ∧ tp i ≤ 255) (n300 : n ≤ 300) {g : zGd} {m : zMm} {st : aSt} (h0 : cS τ ta n tp kd g m st) (hv : aV n st) (rc : tTb) (rec : aTb) (hs : st.s = 300 ∨ (st.s ≠ 300 ∧ st.s ≠ 213 ∧ aNm st.s ≠ -1)) : tIn vS (dO st.o + 1) 40 τ ta n tp kd g m st (aOne (lx tp n) kd rec st) (q_X3_one rc g m (some τ)) ∨ tOut 10 τ g m st (aOne (lx tp n) kd rec st) (q_X3_one rc g m (some τ)) := by
  have b0 := cS_b h0
  have kτ := cS_k h0
  have v4 := h0.2.1.2.2.1
  have q300 := i_eq v4 (show (300 : Int32).toInt = 300 by decide)
  have q213 := i_eq v4 (show (213 : Int32).toInt = 213 by decide)
  have h301 : st.s ≠ 301 := by
    rcases hs with y | ⟨y1, y2, y3⟩
    · omega
    · exact (aNm_g y3).2.2
  have hpa := hv.2.1 h301
  obtain ⟨v1, v2, v3⟩ := vN (tp := tp) hv
  by_cases w : st.s = 300
  · have em : aOne (lx tp n) kd rec st = aB (aNu (lx tp n) 0 9999 st) fun x => some (.inl ([(0, x.1)], x.2)) := if_pos w
    have ec : q_X3_one rc g m (some τ) = zXd (zgrow g (zSl 7) 8 0) 3 (some τ) (f_X3_number (zgrow g (zSl 7) 8 0) (zfresh m (zZ g)) (some τ) (0 : Int32) (9999 : Int32)) (fun (q82, g83, m84) => some (.inr (q82, g83, m84))) fun (v79, g80, m81) => ((f_X7_init g80 m81 (some (zZ g)) v79).bind fun m85 => some (.inl (some (zZ g), g80, m85))) := by
      unfold q_X3_one
      rw [e_gi (ci := 3) kτ, Option.bind_some, if_pos (q300.mpr w)]
      rfl
    rw [em, ec]
    obtain ⟨nS, nG, nB⟩ := t_new (k := zSl 7) (t := 8) (len := 0) h0 (by decide)
    obtain ⟨z, ez⟩ : ∃ z, z = zZ g := ⟨_, rfl⟩
    obtain ⟨G, eG⟩ : ∃ G, G = zgrow g (zSl 7) 8 0 := ⟨_, rfl⟩
    obtain ⟨A, eA⟩ : ∃ A, A = zfresh m z := ⟨_, rfl⟩
    rw [← ez, ← eG, ← eA] at nS nG
    rw [← eG] at nB
    rw [← ez, ← eG, ← eA]
    have kG := cS_k nS
    have Gz : (zK G z).1 = 7 + 1 := by rw [eG, ez, zgrow_Ks]
    have GZ : zZ G = z + 1 := by rw [eG, ez, zgrow_Z]
    have hBG : zB G ≤ z := by rw [nG.1.1]; omega
    rcases c_number hb n300 nS hv (lo := 0) (hi := 9999) (l := 0) (k := 9999) (by decide) (by decide) with ⟨m1, v, x1, x2, x3, x4, x5, x6, x7⟩ | ⟨f, r, x1, x2, x3⟩
    · left
      obtain ⟨M, eM⟩ : ∃ M, M = zsI m1 z 0 v := ⟨_, rfl⟩
      have sM : tSm (fun q => q ≠ z) m1 M := fun q hq => by
        rw [eM, zsI_I, zsI_J, zsI_R, zup_r _ _ hq]; exact ⟨rfl, rfl, rfl⟩
      obtain ⟨wS, wG, wF⟩ := t_wri x7 (nG.tr (cG.tk x6)) (by omega) b0.2.1 b0.2.2.1 b0.2.2.2 sM
      have hx : f_X7_init G m1 (some z) v = some M := by
        show ((f_J10_init G m1 (some z)).bind fun _ => (zpi G m1 7 0 (some z) v).bind fun m1 => some m1) = _
        rw [show f_J10_init G m1 (some z) = some () from rfl, Option.bind_some, e_pi (ci := 7) Gz hBG, eM]; rfl
      refine ⟨[(0, v.toInt)], _, z, G, M, by rw [x1]; rfl, ?_, wS, wG, ?_, v1, by omega, v3, nB.tr (tBd.rf (k := 0) (Int.le_refl 0)) (by omega)⟩
      · rw [e_xe x3, e_xl (ci := 3) kG]
        show ((f_X7_init G m1 (some z) v).bind _) = _
        rw [hx]; rfl
      · exact (v_num (F := fun q => zZ g ≤ q ∧ q < zZ G) ⟨by omega, by omega⟩ Gz (by rw [eM, zsI_I, zup_s])).mono (by omega) (fun _ y => y) ⟨rfl, rfl, fun _ _ => ⟨rfl, rfl, rfl⟩⟩
    · right
      refine ⟨f, st.p, r, by rw [x1]; rfl, ?_, cX.tr nG nB.1 nB.2 x3 (by omega) (by omega), by omega⟩
      rw [e_xe x2, e_xr (ci := 3) kG x3.1]
  · obtain ⟨-, w2, w3⟩ := hs.resolve_left w
    obtain ⟨k0, k6, -⟩ := aNm_g w3
    have hk : (Int32.ofInt (aNm st.s)).toInt = aNm st.s := Int32.toInt_ofInt_of_le (by omega) (by omega)
    have qm := i_eq hk (show (-1 : Int32).toInt = -1 by decide)
    have em : aOne (lx tp n) kd rec st = if aMy kd (aNm st.s) = true then some (.inl ([(1, aNm st.s)], aNx (lx tp n) st)) else some (.inr (5, st.p)) := by
      unfold aOne
      rw [if_neg w, if_neg w2, if_neg w3]
    obtain ⟨K, eK⟩ : ∃ K : Int32, K = Int32.ofInt (aNm st.s) := ⟨_, rfl⟩
    rw [← eK] at hk qm
    have ec : q_X3_one rc g m (some τ) = ((some (if aMy kd (aNm st.s) = true then (1 : Int32) else 0)).bind fun v59 => if v59 = 0 then ((zrc g 3 (some τ) (f_X3_wrong g m (some τ) (5 : Int32))).bind fun (r66, g67, m68) => (zthr g67 r66).bind fun q69 => some (.inr (q69, g67, m68))) else ((zrc g 3 (some τ) (f_X3_next g m (some τ))).bind fun (g60, m61) => ((f_X12_init (zgrow g60 (zSl 12) 13 0) (zfresh m61 (zZ g60)) (some (zZ g60)) K).bind fun m65 => some (.inl (some (zZ g60), zgrow g60 (zSl 12) 13 0, m65))))) := by
      unfold q_X3_one
      rw [e_gi (ci := 3) kτ, Option.bind_some, if_neg (fun y => w (q300.mp y)), Option.bind_some, if_neg (fun y => w2 (q213.mp y)), e_rc (ci := 3) kτ, c_nameNow h0, Option.bind_some, ← eK, if_neg (fun y => by have := qm.mp y; omega), eK, c_mayName h0 k0 k6, e_rc (ci := 3) kτ]
      rfl
    rw [em, ec]
    by_cases y : aMy kd (aNm st.s) = true
    · left
      rw [if_pos y, if_pos y, Option.bind_some, if_neg (by decide)]
      obtain ⟨m1, en, fn, hS1⟩ := cS_next hb n300 h0 hv
      obtain ⟨nS, nG, nB⟩ := t_new (k := zSl 12) (t := 13) (len := 0) hS1 (by decide)
      obtain ⟨z, ez⟩ : ∃ z, z = zZ g := ⟨_, rfl⟩
      obtain ⟨G, eG⟩ : ∃ G, G = zgrow g (zSl 12) 13 0 := ⟨_, rfl⟩
      obtain ⟨A, eA⟩ : ∃ A, A = zfresh m1 z := ⟨_, rfl⟩
      rw [← ez, ← eG, ← eA] at nS nG
      rw [← eG] at nB
      have Gz : (zK G z).1 = 12 + 1 := by rw [eG, ez, zgrow_Ks]
      have GZ : zZ G = z + 1 := by rw [eG, ez, zgrow_Z]
      have hBG : zB G ≤ z := by rw [nG.1.1]; omega
      obtain ⟨M, eM⟩ : ∃ M, M = zsI A z 0 K := ⟨_, rfl⟩
      have sM : tSm (fun q => q ≠ z) A M := fun q hq => by
        rw [eM, zsI_I, zsI_J, zsI_R, zup_r _ _ hq]; exact ⟨rfl, rfl, rfl⟩
      obtain ⟨wS, wG, wF⟩ := t_wri nS ((cG.tk fn).tr nG) (by omega) b0.2.1 b0.2.2.1 b0.2.2.2 sM
      have hx : f_X12_init G A (some z) K = some M := by
        show ((f_J10_init G A (some z)).bind fun _ => (zpi G A 12 0 (some z) K).bind fun m1 => some m1) = _
        rw [show f_J10_init G A (some z) = some () from rfl, Option.bind_some, e_pi (ci := 12) Gz hBG, eM]; rfl
      refine ⟨[(1, aNm st.s)], _, z, G, M, rfl, ?_, wS, wG, ?_, v1, by omega, v3, nB.tr (tBd.rf (k := 0) (Int.le_refl 0)) (by omega)⟩
      · rw [e_rc (ci := 3) kτ, en]
        show ((f_X12_init (zgrow g (zSl 12) 13 0) (zfresh m1 (zZ g)) (some (zZ g)) K).bind _) = _
        rw [← ez, ← eG, ← eA, hx]; rfl
      · exact (v_name (F := fun q => zZ g ≤ q ∧ q < zZ G) ⟨by omega, by omega⟩ Gz (by rw [eM, zsI_I, zup_s]; exact hk) k0 (by omega)).mono (by omega) (fun _ y => y) ⟨rfl, rfl, fun _ _ => ⟨rfl, rfl, rfl⟩⟩
    · right
      rw [if_neg y, if_neg y, Option.bind_some, if_pos rfl]
      obtain ⟨r, e5, x5⟩ := c_wrong h0 (f := 5) (fi := 5) (by decide)
      exact ⟨5, st.p, r, rfl, e5 tRes (fun q g1 m1 => some (.inr (q, g1, m1))), x5.wk (by omega) (by omega), by omega⟩
end
