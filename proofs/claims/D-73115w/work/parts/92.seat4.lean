/-! PURE, seatings: round, seating, seatings -/
set_option maxRecDepth 100000
section
variable {W : pW} {S T S0 T0 : zP} {n : Nat} {q : sSt}
def sB (n : Nat) (f : Int → Int) : List Int := (List.range n).map fun (s : Nat) => f (s : Int)
theorem sB_g (f : Int → Int) {s : Int} (a : 0 ≤ s) (b : s < (n : Int)) : f s = sG (sB n f) s := by
  unfold sG sB
  rw [List.getD_eq_getElem?_getD, List.getElem?_map, List.getElem?_range (show s.toNat < n by omega)]
  show f s = f ((s.toNat : Nat) : Int)
  rw [Int.toNat_of_nonneg a]
theorem sLen (hc : sChk n = true) : (sRows n).length ≤ 120 ∧ 1 ≤ (sRows n).length ∧ p_X2_factorial ((n : Int) - 1) = some ((sRows n).length : Int) ∧ sWf n (n - 1) (sMask n) = true := by
  unfold sChk at hc
  simp only [Bool.and_eq_true, decide_eq_true_eq] at hc
  exact ⟨hc.1.1.1.2, hc.1.1.2, hc.1.1.1.1.2, hc.1.1.1.1.1⟩
def sF (sp : List Int → Int) (q : sSt) (r : List Int) : sSt := sStep sp q (0 :: r)
set_option maxHeartbeats 1000000 in
theorem k_layBest {sp : List Int → Int} (n1 : 1 ≤ n) (n6 : n ≤ 6) (en : T 1 0 = (n : Int)) (hsp : ∀ r, sOk n r → ∀ U : zP, U 1 = T 1 → (∀ s, 0 ≤ s → s < (n : Int) → U 10 s = sG r s) → p_X2_spiteOfRow U = some (sp r)) (hb : ∀ r, sOk n r → 0 ≤ sp r ∧ sp r ≤ 594) : ∃ U, p_X2_layBest T = some U ∧ sRM n T U ((sRows n).foldl (sF sp) (1000000, 0, 0, sB n (T 11))) := by
  have hc := sChk_n n1 n6
  obtain ⟨hl, hl1, hfa, -⟩ := sLen hc
  have hloop : pw (zLoop pb_X2_layBest_45 zFuel (0, pup (pup (pup T 0 28 1000000) 0 29 0) 0 30 0)) (fun U => sRM n T U ((sRows n).foldl (sF sp) (1000000, 0, 0, sB n (T 11)))) := by
    refine pw_lp (fun s => (0 ≤ s.1 ∧ s.1 ≤ ((sRows n).length : Int)) ∧ sRM n T s.2 (((sRows n).take s.1.toNat).foldl (sF sp) (1000000, 0, 0, sB n (T 11)))) (fun s => (((sRows n).length : Int) - s.1).toNat) ?_ ⟨by first | (dsimp only; omega) | omega, fun c a b d => ?_, fun i hi => ?_, ?_, ?_, ?_, fun s a b => ?_⟩ (by first | (dsimp only; omega) | omega)
    · rintro ⟨i, X⟩ ⟨⟨i0, i1⟩, hX⟩
      dsimp only at i0 i1 hX
      obtain ⟨I, rfl⟩ : ∃ I : Nat, i = (I : Int) := ⟨i.toNat, by omega⟩
      rw [Int.toNat_natCast] at hX
      have tn : X 1 0 = (n : Int) := by rw [hX.1 1 (by omega) (by omega) (by omega)]; exact en
      by_cases hi : I = (sRows n).length
      · refine ⟨.inl X, ?_, ?_⟩
        · refine pw_to ?_
          unfold pb_X2_layBest_45
          have hall : p_X2_seatingsInAll X = some ((sRows n).length : Int) := by
            refine pw_to ?_
            unfold p_X2_seatingsInAll
            refine pw_ald (by omega) (by omega) ?_
            rw [tn]
            refine pw_p32 (by omega) (by omega) (pw_beq hfa (pw_some rfl))
          dsimp only
          refine pw_beq hall (pw_ite (fun _ => pw_some rfl) (fun x => absurd x (by omega)))
        · rw [hi, List.take_length] at hX
          exact hX
      · have hr : (sRows n)[I]? = some (sRows n)[I] := List.getElem?_eq_getElem (by omega)
        have hok := sMem n1 hc (List.getElem_mem (show I < (sRows n).length by omega))
        have hg := sFold_g (sF sp) (fun q r h => sStep_g sp _ h) ((sRows n).take I) (1000000, 0, 0, sB n (T 11)) (Int.le_refl _)
        have hgl : ((sRows n).take I).length ≤ 120 := by rw [List.length_take]; omega
        have hb1 := hb _ hok
        dsimp only at hg
        obtain ⟨U, e, hU⟩ := k_best1 hc n1 n6 en hsp hr hX hg.1 (by omega) hb1.1 hb1.2
        refine ⟨_, e, ⟨⟨by first | (dsimp only; omega) | omega, ?_⟩, by first | (dsimp only; omega) | omega⟩⟩
        dsimp only
        rw [show ((I : Int) + 1).toNat = I + 1 by omega, List.take_add_one, hr, Option.toList_some, List.foldl_append]
        exact hU
    · dsimp only
      rw [pup_r a, pup_r a, pup_r a]
    · dsimp only
      rw [pup_k (by omega), pup_k (by omega), pup_k (by omega)]
    · (simp (disch := omega) only [pup_x, pup_k, pup_c, true_and, and_true])
      rfl
    · (simp (disch := omega) only [pup_x, pup_k, pup_c, true_and, and_true])
      rfl
    · (simp (disch := omega) only [pup_x, pup_k, pup_c, true_and, and_true])
      rfl
    · (simp (disch := omega) only [pup_x, pup_k, pup_c, true_and, and_true])
      exact sB_g _ a b
  obtain ⟨U, e, hU⟩ := hloop
  refine ⟨U, pw_to ?_, hU⟩
  unfold p_X2_layBest
  repeat' (first | with_reducible refine pw_some ?_ | with_reducible refine pw_iteT ?_ | with_reducible refine pw_iteF ?_ | with_reducible refine pw_biteT ?_ | with_reducible refine pw_biteF ?_ | with_reducible refine pw_exiteT ?_ | with_reducible refine pw_exiteF ?_ | with_reducible refine pw_inr ?_ | with_reducible refine pw_inl ?_ | ((with_reducible refine pw_ite (fun _ => ?_) (fun _ => ?_)) <;> first | (exfalso; omega) | skip) | ((with_reducible refine pw_in (fun _ _ => ?_) (fun _ => ?_)) <;> first | (exfalso; omega) | skip) | ((with_reducible refine pw_isIn (fun _ _ => ?_) (fun _ => ?_)) <;> first | (exfalso; omega) | skip) | ((with_reducible refine pw_kin ?_ (fun _ _ => ?_) (fun _ => ?_)) ; (omega) <;> first | (exfalso; omega) | skip) | ((with_reducible refine pw_ckin ?_ (fun _ _ => ?_) (fun _ => ?_)); (omega) <;> first | (exfalso; omega) | skip) | ((with_reducible refine pw_many ?_); try simp (disch := omega) only [en, pup_x, pup_k, pup_c, pup_r]) | ((with_reducible refine pw_has0 ?_)) | ((with_reducible refine pw_has2 ?_)) | ((with_reducible refine pw_strapped ?_); try simp (disch := omega) only [en, pup_x, pup_k, pup_c, pup_r]) | ((with_reducible refine pw_ald ?_ ?_ ?_); omega; omega; try simp (disch := omega) only [en, pup_x, pup_k, pup_c, pup_r]) | ((with_reducible refine pw_ast ?_ ?_ ?_); omega; omega) | ((with_reducible refine pw_idx ?_ ?_ ?_); omega; omega) | ((with_reducible refine pw_cp ?_ ?_ ?_ ?_ ?_ ?_); omega; omega; omega; omega; omega) | ((with_reducible refine pw_p32 ?_ ?_ ?_); omega; omega) | ((with_reducible refine pw_p64 ?_ ?_ ?_); omega; omega) | ((with_reducible refine pw_zlt ?_); try simp (disch := omega) only [en, pup_x, pup_k, pup_c, pup_r]) | ((with_reducible refine pw_bo ?_ ?_); omega) | ((with_reducible refine pw_mod ?_ ?_ ?_); omega; omega) | ((with_reducible refine pw_div ?_ ?_ ?_); omega; omega) | ((with_reducible refine pw_bite (fun _ => ?_) (fun _ => ?_)) <;> first | (exfalso; omega) | skip) | ((with_reducible refine pw_bsome ?_)) | ((with_reducible refine pw_bzlt ?_)) | ((with_reducible refine pw_bp32 ?_ ?_ ?_); omega; omega) | ((with_reducible refine pw_bass ?_)) | ((with_reducible refine pw_bex ?_)) | ((with_reducible refine pw_exr ?_)) | ((with_reducible refine pw_exl ?_)) | ((with_reducible refine pw_exite (fun _ => ?_) (fun _ => ?_)) <;> first | (exfalso; omega) | skip) | ((with_reducible refine pw_exz ?_)) | ((with_reducible refine pw_exp ?_ ?_ ?_); omega; omega) | ((with_reducible refine pw_exb ?_)))
  exact pw_beq e (pw_some rfl)
set_option maxHeartbeats 1000000 in
theorem k_lays {sp : List Int → Int} (n1 : 1 ≤ n) (n6 : n ≤ 6) (en : S 2 0 = (n : Int)) (hsp : ∀ r, sOk n r → ∀ U : zP, (∀ c, 2 ≤ c → c ≤ 15 → U c = S c) → (∀ s, 0 ≤ s → s < (n : Int) → U 146 s = sG r s) → p_X0_spiteAround U 146 6 0 = some (sp r)) : ∃ U, p_X0_laysSeats S = some U ∧ sRC n S U ((sRows n).foldl (sF sp) (99999, -1, 0, sB n (S 147))) := by
  have hc := sChk_n n1 n6
  obtain ⟨hl, hl1, hfa, hw⟩ := sLen hc
  have h8 := pshl_8 (t := (n : Int)) (by omega) (by omega)
  obtain ⟨U, e, hU, -⟩ := k_sf (S0 := S) (sp := sp) n6 en hsp (n - 1) 20 (sMask n) [0] (pup (pup (pup (pup S 0 10 99999) 0 11 (-1)) 0 12 0) 146 0 0) (99999, -1, 0, sB n (S 147)) hw (by rw [List.length_singleton]; omega) (by omega)
    ⟨fun c a b d => by rw [pup_r b, pup_r a, pup_r a, pup_r a], fun i hi => by rw [pup_c (by omega), pup_k (by omega), pup_k (by omega), pup_k (by omega)], by (simp (disch := omega) only [pup_x, pup_k, pup_c, true_and, and_true]), by (simp (disch := omega) only [pup_x, pup_k, pup_c, true_and, and_true]), by (simp (disch := omega) only [pup_x, pup_k, pup_c, true_and, and_true]), fun s a b => by
      (simp (disch := omega) only [pup_x, pup_k, pup_c, true_and, and_true])
      exact sB_g _ a b⟩
    (fun s a b => by
      rw [List.length_singleton] at b
      have hs : s = 0 := by omega
      subst hs
      rw [pup_e rfl]; rfl) (fun r hr => sMem n1 hc hr) (Int.le_refl _) (by
      show (0 : Int) + ((sRows n).length : Int) ≤ _
      omega)
  refine ⟨U, pw_to ?_, hU⟩
  unfold p_X0_laysSeats
  refine pw_zlt (pw_zlt (pw_zlt (pw_ast (by omega) (by omega) (pw_many ?_))))
  have e2 : pup (pup (pup (pup S 0 10 99999) 0 11 (-1)) 0 12 0) 146 0 0 2 0 = (n : Int) := by
    rw [pup_c (by omega), pup_c (by omega), pup_c (by omega), pup_c (by omega)]; exact en
  rw [e2]
  exact pw_p32 (by omega) (by omega) (pw_zlt (pw_beq e (pw_some rfl)))
theorem sF_same {sp : List Int → Int} {a b : sSt} {v : Int} {r : List Int} (hv : v = sp (0 :: r)) (v0 : 0 ≤ v) (v1 : v ≤ 594) (a1 : a.1 = 99999) (a2 : a.2.1 = -1) (b1 : b.1 = 1000000) (b2 : b.2.1 = 0) : sF sp a r = sF sp b r := by
  unfold sF sStep
  rw [← hv, a1, a2, b1, b2]
  simp only [if_pos (show v < 99999 by omega), if_pos (show v < 1000000 by omega), if_pos (show -1 < v by omega)]
  by_cases h : 0 < v
  · simp only [if_pos h]
  · rw [show v = 0 by omega]; rfl
set_option maxHeartbeats 1000000 in
theorem q_laysS (h : pRel W S T) : ∃ z u, p_X0_laysSeats S = some z ∧ p_X2_layBest T = some u ∧ pRel W z u ∧ z 0 10 = u 0 28 ∧ z 0 11 = u 0 30 ∧ z 0 12 = u 0 29 ∧ ∀ s, 0 ≤ s → s < T 1 0 → z 147 s = u 11 s := by
  have hd := h.1.1
  unfold pHd at hd
  have h0 : S 2 0 = T 1 0 ∧ 0 ≤ T 1 0 ∧ T 1 0 ≤ 6 := by omega
  clear hd
  have hs := h.1.2.2.2.2.2.1
  obtain ⟨n, en⟩ : ∃ n : Nat, T 1 0 = (n : Int) := ⟨(T 1 0).toNat, by omega⟩
  have n6 : n ≤ 6 := by omega
  have fin : ∀ z u q, sRC n S z q → sRM n T u q → pRel W z u ∧ z 0 10 = u 0 28 ∧ z 0 11 = u 0 30 ∧ z 0 12 = u 0 29 ∧ ∀ s, 0 ≤ s → s < T 1 0 → z 147 s = u 11 s := fun z u q a b => by
    refine ⟨pRel_w h (fun c x y => a.1 c (by omega) (by omega) (by omega)) (fun i hi => a.2.1 i (by omega)) (fun c x y => b.1 c (by omega) (by omega) (by omega)) (fun i hi => b.2.1 i (by omega)), a.2.2.1.trans b.2.2.1.symm, a.2.2.2.1.trans b.2.2.2.1.symm, a.2.2.2.2.1.trans b.2.2.2.2.1.symm, fun s x y => ?_⟩
    rw [en] at y
    rw [a.2.2.2.2.2 s x y, b.2.2.2.2.2 s x y]
  by_cases hn : n = 0
  · subst hn
    have en0 : T 1 0 = 0 := en
    have sn0 : S 2 0 = 0 := h0.1.trans en0
    obtain ⟨A, eA⟩ : ∃ A, A = pup (pup (pup (pup S 0 10 99999) 0 11 (-1)) 0 12 0) 146 0 0 := ⟨_, rfl⟩
    have A1 : ∀ c, c ≠ 0 → c ≠ 146 → A c = S c := fun c a b => by rw [eA, pup_r b, pup_r a, pup_r a, pup_r a]
    have hsp : p_X0_spiteAround A 146 6 0 = some 0 := by
      obtain ⟨v, v1, v2, -⟩ := k_spiteRow (S := A) (T := T) (c := 146) (na := 6) (o := 0) (pSpi_c hs (fun _ _ _ => rfl) (fun a i a0 a1 _ _ => by show A _ _ = S _ _; rw [A1 _ (by omega) (by omega)])) (by rw [A1 2 (by omega) (by omega)]; exact h0.1) (by omega) (by omega) (by omega) (by omega) (by omega) (fun s a b => absurd b (by omega)) (fun s a b => absurd b (by omega))
      have : p_X2_spiteOfRow T = some 0 := by
        refine pw_to ?_
        unfold p_X2_spiteOfRow
        refine pw_ald (by omega) (by omega) ?_
        rw [en0]
        have e : zLoop (pb_X2_spiteOfRow_11 T 0) zFuel (0, 0) = some 0 := by
          have hz : zFuel = 999999 + 1 := rfl
          rw [hz]
          exact zLoop_l rfl
        exact pw_beq e (pw_some rfl)
      rw [v2] at this
      cases this
      exact v1
    obtain ⟨z, ez, hz, -⟩ := k_leaf (S0 := S) (S := A) (n := 0) (q := (99999, -1, 0, [])) (sp := fun _ => 0) (r := []) (rec := rp_seats 19) (a1 := 1) hsp
      ⟨fun c a b d => A1 c a b, fun i hi => by rw [eA, pup_c (by omega), pup_k (by omega), pup_k (by omega), pup_k (by omega)], by rw [eA]; (simp (disch := omega) only [pup_x, pup_k, pup_c, true_and, and_true]), by rw [eA]; (simp (disch := omega) only [pup_x, pup_k, pup_c, true_and, and_true]), by rw [eA]; (simp (disch := omega) only [pup_x, pup_k, pup_c, true_and, and_true]), fun s a b => absurd b (by omega)⟩ (by omega) (fun s a b => absurd b (by omega)) (Int.le_refl _) (by dsimp only; omega)
    obtain ⟨u, eu⟩ : ∃ u, u = pup (pup (pup T 0 28 0) 0 29 1) 0 30 0 := ⟨_, rfl⟩
    refine ⟨z, u, pw_to ?_, pw_to ?_, fin z u _ hz ⟨fun c a b d => by rw [eu, pup_r a, pup_r a, pup_r a], fun i hi => by rw [eu, pup_k (by omega), pup_k (by omega), pup_k (by omega)], ?_, ?_, ?_, fun s a b => absurd b (by omega)⟩⟩
    · unfold p_X0_laysSeats
      refine pw_zlt (pw_zlt (pw_zlt (pw_ast (by omega) (by omega) (pw_many ?_))))
      rw [← eA, A1 2 (by omega) (by omega), sn0]
      have e0 : pshl 1 0 = 1 := by decide
      have e1 : pand (1 - 1) (-2) = 0 := by decide
      rw [e0]
      refine pw_p32 (by omega) (by omega) (pw_zlt ?_)
      rw [e1]
      exact pw_beq ez (pw_some rfl)
    · unfold p_X2_layBest
      repeat' (first | with_reducible refine pw_some ?_ | with_reducible refine pw_iteT ?_ | with_reducible refine pw_iteF ?_ | with_reducible refine pw_biteT ?_ | with_reducible refine pw_biteF ?_ | with_reducible refine pw_exiteT ?_ | with_reducible refine pw_exiteF ?_ | with_reducible refine pw_inr ?_ | with_reducible refine pw_inl ?_ | ((with_reducible refine pw_ite (fun _ => ?_) (fun _ => ?_)) <;> first | (exfalso; omega) | skip) | ((with_reducible refine pw_in (fun _ _ => ?_) (fun _ => ?_)) <;> first | (exfalso; omega) | skip) | ((with_reducible refine pw_isIn (fun _ _ => ?_) (fun _ => ?_)) <;> first | (exfalso; omega) | skip) | ((with_reducible refine pw_kin ?_ (fun _ _ => ?_) (fun _ => ?_)) ; (omega) <;> first | (exfalso; omega) | skip) | ((with_reducible refine pw_ckin ?_ (fun _ _ => ?_) (fun _ => ?_)); (omega) <;> first | (exfalso; omega) | skip) | ((with_reducible refine pw_many ?_); try simp (disch := omega) only [en0, pup_x, pup_k, pup_c, pup_r]) | ((with_reducible refine pw_has0 ?_)) | ((with_reducible refine pw_has2 ?_)) | ((with_reducible refine pw_strapped ?_); try simp (disch := omega) only [en0, pup_x, pup_k, pup_c, pup_r]) | ((with_reducible refine pw_ald ?_ ?_ ?_); omega; omega; try simp (disch := omega) only [en0, pup_x, pup_k, pup_c, pup_r]) | ((with_reducible refine pw_ast ?_ ?_ ?_); omega; omega) | ((with_reducible refine pw_idx ?_ ?_ ?_); omega; omega) | ((with_reducible refine pw_cp ?_ ?_ ?_ ?_ ?_ ?_); omega; omega; omega; omega; omega) | ((with_reducible refine pw_p32 ?_ ?_ ?_); omega; omega) | ((with_reducible refine pw_p64 ?_ ?_ ?_); omega; omega) | ((with_reducible refine pw_zlt ?_); try simp (disch := omega) only [en0, pup_x, pup_k, pup_c, pup_r]) | ((with_reducible refine pw_bo ?_ ?_); omega) | ((with_reducible refine pw_mod ?_ ?_ ?_); omega; omega) | ((with_reducible refine pw_div ?_ ?_ ?_); omega; omega) | ((with_reducible refine pw_bite (fun _ => ?_) (fun _ => ?_)) <;> first | (exfalso; omega) | skip) | ((with_reducible refine pw_bsome ?_)) | ((with_reducible refine pw_bzlt ?_)) | ((with_reducible refine pw_bp32 ?_ ?_ ?_); omega; omega) | ((with_reducible refine pw_bass ?_)) | ((with_reducible refine pw_bex ?_)) | ((with_reducible refine pw_exr ?_)) | ((with_reducible refine pw_exl ?_)) | ((with_reducible refine pw_exite (fun _ => ?_) (fun _ => ?_)) <;> first | (exfalso; omega) | skip) | ((with_reducible refine pw_exz ?_)) | ((with_reducible refine pw_exp ?_ ?_ ?_); omega; omega) | ((with_reducible refine pw_exb ?_)))
      have e : zLoop pb_X2_layBest_45 zFuel (0, u) = some u := by
        have hz : zFuel = 999999 + 1 := rfl
        rw [hz]
        refine zLoop_l (pw_to ?_)
        have un : u 1 0 = 0 := by rw [eu, pup_c (by omega), pup_c (by omega), pup_c (by omega)]; exact en0
        have f1 : p_X2_factorial (0 - 1) = some 1 := by decide +kernel
        unfold pb_X2_layBest_45 p_X2_seatingsInAll
        dsimp only
        refine pw_bass (pw_ald (by omega) (by omega) ?_)
        rw [un]
        refine pw_bp32 (by omega) (by omega) (pw_bass (pw_beq f1 (pw_bsome ?_)))
        refine pw_ite (fun x => absurd x (by omega)) (fun _ => pw_ald (by omega) (by omega) ?_)
        rw [un]
        exact pw_ite (fun _ => pw_some rfl) (fun x => absurd x (by omega))
      rw [eu] at e
      refine pw_beq e ?_
      rw [eu]
      exact pw_some rfl
    · rw [eu]
      (simp (disch := omega) only [pup_x, pup_k, pup_c, true_and, and_true])
      rfl
    · rw [eu]
      (simp (disch := omega) only [pup_x, pup_k, pup_c, true_and, and_true])
      rfl
    · rw [eu]
      (simp (disch := omega) only [pup_x, pup_k, pup_c, true_and, and_true])
      rfl
  · have n1 : 1 ≤ n := by omega
    have hc := sChk_n n1 n6
    have hl := sLen hc
    have K : ∀ r, sOk n r → _ := fun r hr => k_sp hs h0.1 en n6 hr
    obtain ⟨z, ez, hz⟩ := k_lays (S := S) (sp := sSp T) n1 n6 (h0.1.trans en) (fun r hr => (K r hr).2.1)
    obtain ⟨u, eu, hu⟩ := k_layBest (T := T) (sp := sSp T) n1 n6 en (fun r hr => (K r hr).2.2) (fun r hr => (K r hr).1)
    refine ⟨z, u, ez, eu, ?_⟩
    have same : (sRows n).foldl (sF (sSp T)) (1000000, 0, 0, sB n (T 11)) = (sRows n).foldl (sF (sSp T)) (99999, -1, 0, sB n (S 147)) := by
      cases hR : sRows n with
      | nil => rw [hR] at hl; exact absurd hl.2.1 (by decide)
      | cons r L =>
        have hok := sMem n1 hc (show r ∈ sRows n by rw [hR]; exact List.mem_cons_self)
        have hb := (K _ hok).1
        rw [List.foldl_cons, List.foldl_cons, sF_same (a := (99999, -1, 0, sB n (S 147))) (b := (1000000, 0, 0, sB n (T 11))) rfl hb.1 hb.2 rfl rfl rfl rfl]
    rw [same] at hu
    exact fin z u _ hz hu
theorem q_round (h : pRel W S T) (a : Int) : pw (p_X0_round S a) (fun z => pw (p_X2_round T a) (fun t => z.1 = t.1 ∧ pRel W z.2 t.2)) := by
  obtain ⟨z, u, e1, e2, hr, f1, f2, -, -⟩ := q_laysS h
  unfold p_X0_round p_X2_round
  rw [e1, e2]
  dsimp only [Option.bind_some, zlt]
  by_cases ha : a = 0
  · rw [if_pos ha, if_pos ha]; exact pw2_some ⟨f2, hr⟩
  · rw [if_neg ha, if_neg ha]; exact pw2_some ⟨f1, hr⟩
theorem q_seatings (h : pRel W S T) : pw (p_X0_seatings S) (fun z => pw (p_X2_seatings T) (fun t => z.1 = t.1 ∧ pRel W z.2 t.2)) := by
  obtain ⟨z, u, e1, e2, hr, -, -, f3, -⟩ := q_laysS h
  unfold p_X0_seatings p_X2_seatings
  rw [e1, e2]
  exact pw2_some ⟨f3, hr⟩
theorem q_seating (h : pRel W S T) (a : Int) : pw (p_X0_seating S a) (fun z => pw (p_X2_seating T a) (fun t => z.1 = t.1 ∧ pRel W z.2 t.2)) := by
  have hd := h.1.1
  unfold pHd at hd
  have h0 : S 2 0 = T 1 0 ∧ 0 ≤ T 1 0 ∧ T 1 0 ≤ 6 := by omega
  clear hd
  obtain ⟨z, u, e1, e2, hr, -, -, -, f4⟩ := q_laysS h
  unfold p_X0_seating p_X2_seating
  refine pw_ckin (by omega) (fun a0 a1 => ?_) (fun a0 => ?_)
  · rw [h0.1] at a1
    refine pw_ite (fun x => absurd x (by omega)) (fun _ => ?_)
    refine pw_beq e1 (pw_ald (by omega) (by omega) (pw_some ?_))
    refine pw_kin (by omega) (fun _ _ => ?_) (fun x => absurd x (by omega))
    refine pw_ite (fun x => absurd x (by omega)) (fun _ => ?_)
    exact pw_beq e2 (pw_ald (by omega) (by omega) (pw_some ⟨f4 a a0 a1, hr⟩))
  · rw [h0.1] at a0
    refine pw_ite (fun _ => pw_some ?_) (fun x => absurd rfl x)
    refine pw_kin (by omega) (fun _ _ => absurd a0 (by omega)) (fun _ => ?_)
    exact pw_ite (fun _ => pw_some ⟨rfl, h⟩) (fun x => absurd rfl x)
end
