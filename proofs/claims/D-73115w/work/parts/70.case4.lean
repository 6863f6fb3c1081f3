/-! PURE, cases 4: kin, undo, the tape -/
set_option maxRecDepth 100000
section
variable {W : pW} {SC SM : zP}
set_option maxHeartbeats 1000000 in
theorem k_tells {S : zP} {at' v : Int} (h0 : 0 ≤ S 2 3) (h1 : S 2 3 ≤ 30) (a0 : 0 ≤ at') (a1 : at' < 116) : ∃ T, p_X1_tells S 1 at' v = some T ∧ ∀ c i, T c i = if (c = 3 ∨ (41 ≤ c ∧ (c : Int) < 41 + S 2 3)) ∧ i = at' then v else S c i := by
  have : pw (p_X1_tells S 1 at' v) (fun T => ∀ c i, T c i = if (c = 3 ∨ (41 ≤ c ∧ (c : Int) < 41 + S 2 3)) ∧ i = at' then v else S c i) := by
    unfold p_X1_tells
    simp only [Nat.reduceAdd]
    repeat' (first | with_reducible refine pw_some ?_ | with_reducible refine pw_iteT ?_ | with_reducible refine pw_iteF ?_ | with_reducible refine pw_biteT ?_ | with_reducible refine pw_biteF ?_ | with_reducible refine pw_exiteT ?_ | with_reducible refine pw_exiteF ?_ | with_reducible refine pw_inr ?_ | with_reducible refine pw_inl ?_ | ((with_reducible refine pw_ite (fun _ => ?_) (fun _ => ?_)) <;> first | (exfalso; omega) | skip) | ((with_reducible refine pw_in (fun _ _ => ?_) (fun _ => ?_)) <;> first | (exfalso; omega) | skip) | ((with_reducible refine pw_isIn (fun _ _ => ?_) (fun _ => ?_)) <;> first | (exfalso; omega) | skip) | ((with_reducible refine pw_kin ?_ (fun _ _ => ?_) (fun _ => ?_)) ; (omega) <;> first | (exfalso; omega) | skip) | ((with_reducible refine pw_ckin ?_ (fun _ _ => ?_) (fun _ => ?_)); (omega) <;> first | (exfalso; omega) | skip) | ((with_reducible refine pw_many ?_); try simp (disch := omega) only [pup_x, pup_k, pup_c, pup_r]) | ((with_reducible refine pw_has0 ?_)) | ((with_reducible refine pw_has2 ?_)) | ((with_reducible refine pw_strapped ?_); try simp (disch := omega) only [pup_x, pup_k, pup_c, pup_r]) | ((with_reducible refine pw_ald ?_ ?_ ?_); omega; omega; try simp (disch := omega) only [pup_x, pup_k, pup_c, pup_r]) | ((with_reducible refine pw_ast ?_ ?_ ?_); omega; omega) | ((with_reducible refine pw_idx ?_ ?_ ?_); omega; omega) | ((with_reducible refine pw_cp ?_ ?_ ?_ ?_ ?_ ?_); omega; omega; omega; omega; omega) | ((with_reducible refine pw_p32 ?_ ?_ ?_); omega; omega) | ((with_reducible refine pw_p64 ?_ ?_ ?_); omega; omega) | ((with_reducible refine pw_zlt ?_); try simp (disch := omega) only [pup_x, pup_k, pup_c, pup_r]) | ((with_reducible refine pw_bo ?_ ?_); omega) | ((with_reducible refine pw_mod ?_ ?_ ?_); omega; omega) | ((with_reducible refine pw_div ?_ ?_ ?_); omega; omega) | ((with_reducible refine pw_bite (fun _ => ?_) (fun _ => ?_)) <;> first | (exfalso; omega) | skip) | ((with_reducible refine pw_bsome ?_)) | ((with_reducible refine pw_bzlt ?_)) | ((with_reducible refine pw_bp32 ?_ ?_ ?_); omega; omega) | ((with_reducible refine pw_bass ?_)) | ((with_reducible refine pw_bex ?_)) | ((with_reducible refine pw_exr ?_)) | ((with_reducible refine pw_exl ?_)) | ((with_reducible refine pw_exite (fun _ => ?_) (fun _ => ?_)) <;> first | (exfalso; omega) | skip) | ((with_reducible refine pw_exz ?_)) | ((with_reducible refine pw_exp ?_ ?_ ?_); omega; omega) | ((with_reducible refine pw_exb ?_)))
    have hl : pw (zLoop (pb_X1_tells_9 1 at' v) zFuel (0, pup S 3 at' v)) (fun T => ∀ c i, T c i = if (c = 3 ∨ (41 ≤ c ∧ (c : Int) < 41 + S 2 3)) ∧ i = at' then v else S c i) := by
      refine pw_lp (fun q => (0 ≤ q.1 ∧ q.1 ≤ S 2 3) ∧ ∀ c i, q.2 c i = if (c = 3 ∨ (41 ≤ c ∧ (c : Int) < 41 + q.1)) ∧ i = at' then v else S c i) (fun q => (30 - q.1).toNat) ?_ ⟨⟨by dsimp only; omega, by dsimp only; omega⟩, fun c i => ?_⟩ (by dsimp only; omega)
      · rintro ⟨k, T⟩ ⟨⟨k0, k1⟩, hT⟩
        try dsimp only at k0 k1 hT
        have t3 : T 2 3 = S 2 3 := by rw [hT, if_neg (by omega)]
        unfold pb_X1_tells_9
        simp only [Nat.reduceAdd]
        repeat' (first | with_reducible refine pw_some ?_ | with_reducible refine pw_iteT ?_ | with_reducible refine pw_iteF ?_ | with_reducible refine pw_biteT ?_ | with_reducible refine pw_biteF ?_ | with_reducible refine pw_exiteT ?_ | with_reducible refine pw_exiteF ?_ | with_reducible refine pw_inr ?_ | with_reducible refine pw_inl ?_ | ((with_reducible refine pw_ite (fun _ => ?_) (fun _ => ?_)) <;> first | (exfalso; omega) | skip) | ((with_reducible refine pw_in (fun _ _ => ?_) (fun _ => ?_)) <;> first | (exfalso; omega) | skip) | ((with_reducible refine pw_isIn (fun _ _ => ?_) (fun _ => ?_)) <;> first | (exfalso; omega) | skip) | ((with_reducible refine pw_kin ?_ (fun _ _ => ?_) (fun _ => ?_)) ; (omega) <;> first | (exfalso; omega) | skip) | ((with_reducible refine pw_ckin ?_ (fun _ _ => ?_) (fun _ => ?_)); (omega) <;> first | (exfalso; omega) | skip) | ((with_reducible refine pw_many ?_); try simp (disch := omega) only [t3, pup_x, pup_k, pup_c, pup_r]) | ((with_reducible refine pw_has0 ?_)) | ((with_reducible refine pw_has2 ?_)) | ((with_reducible refine pw_strapped ?_); try simp (disch := omega) only [t3, pup_x, pup_k, pup_c, pup_r]) | ((with_reducible refine pw_ald ?_ ?_ ?_); omega; omega; try simp (disch := omega) only [t3, pup_x, pup_k, pup_c, pup_r]) | ((with_reducible refine pw_ast ?_ ?_ ?_); omega; omega) | ((with_reducible refine pw_idx ?_ ?_ ?_); omega; omega) | ((with_reducible refine pw_cp ?_ ?_ ?_ ?_ ?_ ?_); omega; omega; omega; omega; omega) | ((with_reducible refine pw_p32 ?_ ?_ ?_); omega; omega) | ((with_reducible refine pw_p64 ?_ ?_ ?_); omega; omega) | ((with_reducible refine pw_zlt ?_); try simp (disch := omega) only [t3, pup_x, pup_k, pup_c, pup_r]) | ((with_reducible refine pw_bo ?_ ?_); omega) | ((with_reducible refine pw_mod ?_ ?_ ?_); omega; omega) | ((with_reducible refine pw_div ?_ ?_ ?_); omega; omega) | ((with_reducible refine pw_bite (fun _ => ?_) (fun _ => ?_)) <;> first | (exfalso; omega) | skip) | ((with_reducible refine pw_bsome ?_)) | ((with_reducible refine pw_bzlt ?_)) | ((with_reducible refine pw_bp32 ?_ ?_ ?_); omega; omega) | ((with_reducible refine pw_bass ?_)) | ((with_reducible refine pw_bex ?_)) | ((with_reducible refine pw_exr ?_)) | ((with_reducible refine pw_exl ?_)) | ((with_reducible refine pw_exite (fun _ => ?_) (fun _ => ?_)) <;> first | (exfalso; omega) | skip) | ((with_reducible refine pw_exz ?_)) | ((with_reducible refine pw_exp ?_ ?_ ?_); omega; omega) | ((with_reducible refine pw_exb ?_)))
        · intro c i
          rw [hT]
          by_cases hq : (c = 3 ∨ (41 ≤ c ∧ (c : Int) < 41 + S 2 3)) ∧ i = at'
          · rw [if_pos (by omega), if_pos hq]
          · rw [if_neg (by omega), if_neg hq]
        · refine ⟨⟨⟨by dsimp only; omega, by dsimp only; omega⟩, fun c i => ?_⟩, by dsimp only; omega⟩
          dsimp only
          by_cases hc : c = 41 + k.toNat ∧ i = at'
          · rw [hc.1, hc.2, pup_e rfl, if_pos (by omega)]
          · rw [show pup T (41 + k.toNat) at' v c i = T c i from if_neg hc, hT]
            by_cases hq : (c = 3 ∨ (41 ≤ c ∧ (c : Int) < 41 + k)) ∧ i = at'
            · rw [if_pos hq, if_pos (by omega)]
            · rw [if_neg hq, if_neg (by omega)]
      · dsimp only
        by_cases hc : c = 3 ∧ i = at'
        · rw [hc.1, hc.2, pup_e rfl, if_pos (by omega)]
        · rw [show pup S 3 at' v c i = S c i from if_neg hc, if_neg (by omega)]
    obtain ⟨T, eT, hT⟩ := hl
    refine pw_beq eT (pw_some hT)
  obtain ⟨T, eT, hT⟩ := this
  exact ⟨T, eT, hT⟩
set_option maxHeartbeats 1000000 in
theorem q_kin (h : pRel W SC SM) (a b : Int) : pw (p_X0_kin SC a b) (fun z => pw (p_X2_kin SM a b) (fun t => z.1 = t.1 ∧ pRel W z.2 t.2)) := by
  obtain ⟨hn, hi, hm, ht⟩ := id h
  have hd := hn.1
  unfold pHd at hd
  unfold p_X0_kin p_X2_kin p_X2_begin
  by_cases hk : (0 ≤ a ∧ a ≤ 9) ∧ (0 ≤ b ∧ b ≤ 99) ∧ SM 1 0 < 6
  · have s23 : pup (pup SC 4 (SC 2 0) a) 2 0 (SC 2 0 + 1) 2 3 = SM 1 3 := by (simp (disch := omega) only [pup_x, pup_k, pup_c, true_and, and_true]) <;> omega
    repeat' (first | with_reducible refine pw_some ?_ | with_reducible refine pw_iteT ?_ | with_reducible refine pw_iteF ?_ | with_reducible refine pw_biteT ?_ | with_reducible refine pw_biteF ?_ | with_reducible refine pw_exiteT ?_ | with_reducible refine pw_exiteF ?_ | with_reducible refine pw_inr ?_ | with_reducible refine pw_inl ?_ | ((with_reducible refine pw_ite (fun _ => ?_) (fun _ => ?_)) <;> first | (exfalso; omega) | skip) | ((with_reducible refine pw_in (fun _ _ => ?_) (fun _ => ?_)) <;> first | (exfalso; omega) | skip) | ((with_reducible refine pw_isIn (fun _ _ => ?_) (fun _ => ?_)) <;> first | (exfalso; omega) | skip) | ((with_reducible refine pw_kin ?_ (fun _ _ => ?_) (fun _ => ?_)) ; (omega) <;> first | (exfalso; omega) | skip) | ((with_reducible refine pw_ckin ?_ (fun _ _ => ?_) (fun _ => ?_)); (omega) <;> first | (exfalso; omega) | skip) | ((with_reducible refine pw_many ?_); try simp (disch := omega) only [pup_x, pup_k, pup_c, pup_r]) | ((with_reducible refine pw_has0 ?_)) | ((with_reducible refine pw_has2 ?_)) | ((with_reducible refine pw_strapped ?_); try simp (disch := omega) only [pup_x, pup_k, pup_c, pup_r]) | ((with_reducible refine pw_ald ?_ ?_ ?_); omega; omega; try simp (disch := omega) only [pup_x, pup_k, pup_c, pup_r]) | ((with_reducible refine pw_ast ?_ ?_ ?_); omega; omega) | ((with_reducible refine pw_idx ?_ ?_ ?_); omega; omega) | ((with_reducible refine pw_cp ?_ ?_ ?_ ?_ ?_ ?_); omega; omega; omega; omega; omega) | ((with_reducible refine pw_p32 ?_ ?_ ?_); omega; omega) | ((with_reducible refine pw_p64 ?_ ?_ ?_); omega; omega) | ((with_reducible refine pw_zlt ?_); try simp (disch := omega) only [pup_x, pup_k, pup_c, pup_r]) | ((with_reducible refine pw_bo ?_ ?_); omega) | ((with_reducible refine pw_mod ?_ ?_ ?_); omega; omega) | ((with_reducible refine pw_div ?_ ?_ ?_); omega; omega) | ((with_reducible refine pw_bite (fun _ => ?_) (fun _ => ?_)) <;> first | (exfalso; omega) | skip) | ((with_reducible refine pw_bsome ?_)) | ((with_reducible refine pw_bzlt ?_)) | ((with_reducible refine pw_bp32 ?_ ?_ ?_); omega; omega) | ((with_reducible refine pw_bass ?_)) | ((with_reducible refine pw_bex ?_)) | ((with_reducible refine pw_exr ?_)) | ((with_reducible refine pw_exl ?_)) | ((with_reducible refine pw_exite (fun _ => ?_) (fun _ => ?_)) <;> first | (exfalso; omega) | skip) | ((with_reducible refine pw_exz ?_)) | ((with_reducible refine pw_exp ?_ ?_ ?_); omega; omega) | ((with_reducible refine pw_exb ?_)))
    obtain ⟨T, eT, hT⟩ := k_tells (S := pup (pup SC 4 (SC 2 0) a) 2 0 (SC 2 0 + 1)) (at' := 2 + SC 2 0) (v := SC 2 0) (by omega) (by omega) (by omega) (by omega)
    refine pw_beq eT ?_
    repeat' (first | with_reducible refine pw_some ?_ | with_reducible refine pw_iteT ?_ | with_reducible refine pw_iteF ?_ | with_reducible refine pw_biteT ?_ | with_reducible refine pw_biteF ?_ | with_reducible refine pw_exiteT ?_ | with_reducible refine pw_exiteF ?_ | with_reducible refine pw_inr ?_ | with_reducible refine pw_inl ?_ | ((with_reducible refine pw_ite (fun _ => ?_) (fun _ => ?_)) <;> first | (exfalso; omega) | skip) | ((with_reducible refine pw_in (fun _ _ => ?_) (fun _ => ?_)) <;> first | (exfalso; omega) | skip) | ((with_reducible refine pw_isIn (fun _ _ => ?_) (fun _ => ?_)) <;> first | (exfalso; omega) | skip) | ((with_reducible refine pw_kin ?_ (fun _ _ => ?_) (fun _ => ?_)) ; (omega) <;> first | (exfalso; omega) | skip) | ((with_reducible refine pw_ckin ?_ (fun _ _ => ?_) (fun _ => ?_)); (omega) <;> first | (exfalso; omega) | skip) | ((with_reducible refine pw_many ?_); try simp (disch := omega) only [pup_x, pup_k, pup_c, pup_r]) | ((with_reducible refine pw_has0 ?_)) | ((with_reducible refine pw_has2 ?_)) | ((with_reducible refine pw_strapped ?_); try simp (disch := omega) only [pup_x, pup_k, pup_c, pup_r]) | ((with_reducible refine pw_ald ?_ ?_ ?_); omega; omega; try simp (disch := omega) only [pup_x, pup_k, pup_c, pup_r]) | ((with_reducible refine pw_ast ?_ ?_ ?_); omega; omega) | ((with_reducible refine pw_idx ?_ ?_ ?_); omega; omega) | ((with_reducible refine pw_cp ?_ ?_ ?_ ?_ ?_ ?_); omega; omega; omega; omega; omega) | ((with_reducible refine pw_p32 ?_ ?_ ?_); omega; omega) | ((with_reducible refine pw_p64 ?_ ?_ ?_); omega; omega) | ((with_reducible refine pw_zlt ?_); try simp (disch := omega) only [pup_x, pup_k, pup_c, pup_r]) | ((with_reducible refine pw_bo ?_ ?_); omega) | ((with_reducible refine pw_mod ?_ ?_ ?_); omega; omega) | ((with_reducible refine pw_div ?_ ?_ ?_); omega; omega) | ((with_reducible refine pw_bite (fun _ => ?_) (fun _ => ?_)) <;> first | (exfalso; omega) | skip) | ((with_reducible refine pw_bsome ?_)) | ((with_reducible refine pw_bzlt ?_)) | ((with_reducible refine pw_bp32 ?_ ?_ ?_); omega; omega) | ((with_reducible refine pw_bass ?_)) | ((with_reducible refine pw_bex ?_)) | ((with_reducible refine pw_exr ?_)) | ((with_reducible refine pw_exl ?_)) | ((with_reducible refine pw_exite (fun _ => ?_) (fun _ => ?_)) <;> first | (exfalso; omega) | skip) | ((with_reducible refine pw_exz ?_)) | ((with_reducible refine pw_exp ?_ ?_ ?_); omega; omega) | ((with_reducible refine pw_exb ?_)))
    rw [s23] at hT
    have t3 : T 2 3 = SM 1 3 := by rw [hT, if_neg (by omega)]; exact s23
    obtain ⟨U, eU, hU⟩ := k_tells (S := T) (at' := 8 + SC 2 0) (v := b) (by omega) (by omega) (by omega) (by omega)
    refine pw_beq eU ?_
    rw [t3] at hU
    repeat' (first | with_reducible refine pw_some ?_ | with_reducible refine pw_iteT ?_ | with_reducible refine pw_iteF ?_ | with_reducible refine pw_biteT ?_ | with_reducible refine pw_biteF ?_ | with_reducible refine pw_exiteT ?_ | with_reducible refine pw_exiteF ?_ | with_reducible refine pw_inr ?_ | with_reducible refine pw_inl ?_ | ((with_reducible refine pw_ite (fun _ => ?_) (fun _ => ?_)) <;> first | (exfalso; omega) | skip) | ((with_reducible refine pw_in (fun _ _ => ?_) (fun _ => ?_)) <;> first | (exfalso; omega) | skip) | ((with_reducible refine pw_isIn (fun _ _ => ?_) (fun _ => ?_)) <;> first | (exfalso; omega) | skip) | ((with_reducible refine pw_kin ?_ (fun _ _ => ?_) (fun _ => ?_)) ; (omega) <;> first | (exfalso; omega) | skip) | ((with_reducible refine pw_ckin ?_ (fun _ _ => ?_) (fun _ => ?_)); (omega) <;> first | (exfalso; omega) | skip) | ((with_reducible refine pw_many ?_); try simp (disch := omega) only [pup_x, pup_k, pup_c, pup_r]) | ((with_reducible refine pw_has0 ?_)) | ((with_reducible refine pw_has2 ?_)) | ((with_reducible refine pw_strapped ?_); try simp (disch := omega) only [pup_x, pup_k, pup_c, pup_r]) | ((with_reducible refine pw_ald ?_ ?_ ?_); omega; omega; try simp (disch := omega) only [pup_x, pup_k, pup_c, pup_r]) | ((with_reducible refine pw_ast ?_ ?_ ?_); omega; omega) | ((with_reducible refine pw_idx ?_ ?_ ?_); omega; omega) | ((with_reducible refine pw_cp ?_ ?_ ?_ ?_ ?_ ?_); omega; omega; omega; omega; omega) | ((with_reducible refine pw_p32 ?_ ?_ ?_); omega; omega) | ((with_reducible refine pw_p64 ?_ ?_ ?_); omega; omega) | ((with_reducible refine pw_zlt ?_); try simp (disch := omega) only [pup_x, pup_k, pup_c, pup_r]) | ((with_reducible refine pw_bo ?_ ?_); omega) | ((with_reducible refine pw_mod ?_ ?_ ?_); omega; omega) | ((with_reducible refine pw_div ?_ ?_ ?_); omega; omega) | ((with_reducible refine pw_bite (fun _ => ?_) (fun _ => ?_)) <;> first | (exfalso; omega) | skip) | ((with_reducible refine pw_bsome ?_)) | ((with_reducible refine pw_bzlt ?_)) | ((with_reducible refine pw_bp32 ?_ ?_ ?_); omega; omega) | ((with_reducible refine pw_bass ?_)) | ((with_reducible refine pw_bex ?_)) | ((with_reducible refine pw_exr ?_)) | ((with_reducible refine pw_exl ?_)) | ((with_reducible refine pw_exite (fun _ => ?_) (fun _ => ?_)) <;> first | (exfalso; omega) | skip) | ((with_reducible refine pw_exz ?_)) | ((with_reducible refine pw_exp ?_ ?_ ?_); omega; omega) | ((with_reducible refine pw_exb ?_)))
    have z : ∀ c i, U c i = if (c = 3 ∨ (41 ≤ c ∧ (c : Int) < 41 + SM 1 3)) ∧ i = 8 + SC 2 0 then b else if (c = 3 ∨ (41 ≤ c ∧ (c : Int) < 41 + SM 1 3)) ∧ i = 2 + SC 2 0 then SC 2 0 else if c = 4 ∧ i = SC 2 0 then a else if c = 2 ∧ i = 0 then SC 2 0 + 1 else SC c i := by
      intro c i
      rw [hU, hT]
      by_cases h1 : (c = 3 ∨ (41 ≤ c ∧ (c : Int) < 41 + SM 1 3)) ∧ i = 8 + SC 2 0
      · rw [if_pos h1, if_pos h1]
      · rw [if_neg h1, if_neg h1]
        by_cases h2 : (c = 3 ∨ (41 ≤ c ∧ (c : Int) < 41 + SM 1 3)) ∧ i = 2 + SC 2 0
        · rw [if_pos h2, if_pos h2]
        · rw [if_neg h2, if_neg h2]
          by_cases h3 : c = 2 ∧ i = 0
          · rw [h3.1, h3.2, pup_e rfl, if_neg (by omega), if_pos (by omega)]
          · rw [show pup (pup SC 4 (SC 2 0) a) 2 0 (SC 2 0 + 1) c i = pup SC 4 (SC 2 0) a c i from if_neg h3]
            by_cases h4 : c = 4 ∧ i = SC 2 0
            · rw [if_pos h4, h4.1, h4.2, pup_e rfl]
            · rw [if_neg h4, if_neg h3]; exact if_neg h4
    clear hU hT eU eT t3 s23
    refine ⟨by omega, ?_⟩
    try dsimp only
    have e20 : SC 2 0 = SM 1 0 := hd.1.1
    refine now_u (fun i => i ≠ 0 ∧ (i < 11 ∨ 34 < i)) (fun c => c ≠ 2 ∧ c ≠ 3 ∧ c ≠ 4 ∧ (c < 41 ∨ 70 < c)) h (by first | omega | (intros; omega)) (by first | omega | (intros; omega)) (by intros; simp (disch := omega) only [pup_k, pup_c, pup_r]) (by intros; simp (disch := omega) only [pup_k, pup_c, pup_r]) (fun c hc => funext fun i => ?_) (fun e f => ?_)
    · try dsimp only at hc
      rw [z, if_neg (by omega), if_neg (by omega), if_neg (by omega), if_neg (by omega)]
    try dsimp only at e f
    have e0 : pup (pup (pup (pup (pup SM 1 (23 + SM 1 0) a) 1 (29 + SM 1 0) b) 1 (11 + SM 1 0) b) 1 (17 + SM 1 0) (SM 1 0)) 1 0 (SM 1 0 + 1) 1 0 = SM 1 0 + 1 := pup_e rfl
    obtain ⟨g1, g2, g3, g4, g5, g6, g7, g8, g9, g10, g11, g12⟩ := hn
    unfold pNow pSt
    rw [e0]
    refine ⟨?_, ?_, ?_, ?_, ?_, pSpi_c g6 (fun i _ _ => e i (by omega)) (fun a i _ _ _ _ => by rw [f _ (by omega)]), pHed_c g7 (fun i _ _ => e i (by omega)) (fun i _ _ => by rw [f _ (by omega)]), pGue_c (by omega) g8 (e _ (by omega)) (fun i _ _ => e i (by omega)) (fun a i _ _ _ _ => by rw [f _ (by omega)]), pGai_c g9 (fun i _ _ => e i (by omega)) (fun i _ _ => by rw [f _ (by omega)]) (fun i _ _ => by rw [f _ (by omega)]), pSay_c (by omega) g10 (e _ (by omega)) (fun i _ _ => e i (by omega)) (fun a i _ _ _ _ => by rw [f _ (by omega)]), ?_, ?_⟩
    · unfold pHd
      have z0 : ∀ i, 0 < i → i < 7 → U 2 i = SC 2 i := fun i a b => by rw [z, if_neg (by omega), if_neg (by omega), if_neg (by omega), if_neg (by omega)]
      have z1 : U 2 0 = SC 2 0 + 1 := by rw [z, if_neg (by omega), if_neg (by omega), if_neg (by omega), if_pos (by omega)]
      rw [z0 1 (by omega) (by omega), z0 2 (by omega) (by omega), z0 3 (by omega) (by omega), z0 4 (by omega) (by omega), z0 5 (by omega) (by omega), z0 6 (by omega) (by omega), z1]
      (simp (disch := omega) only [pup_x, pup_k, pup_c, true_and, and_true])
      omega
    · obtain ⟨c1, c2, c3, c4, c5, c6, c7⟩ := g2
      have zr : ∀ i, i ≠ 8 + SM 1 0 → i ≠ 2 + SM 1 0 → U 3 i = SC 3 i := fun i a b => by rw [z, if_neg (by omega), if_neg (by omega), if_neg (by omega), if_neg (by omega)]
      have z8 : U 3 (8 + SM 1 0) = b := by rw [z, if_pos (by omega)]
      have z2 : U 3 (2 + SM 1 0) = SM 1 0 := by rw [z, if_neg (by omega), if_pos (by omega), e20]
      unfold pCur
      rw [zr 0 (by omega) (by omega), zr 1 (by omega) (by omega), zr 15 (by omega) (by omega), zr 14 (by omega) (by omega)]
      simp (disch := omega) only [pup_x, pup_k]
      refine ⟨c1, c2, c3, c4, fun k a b => ?_, fun k a b => ?_, fun s a b => ?_⟩
      · by_cases hk : k = SM 1 0
        · rw [hk, z8]; (simp (disch := omega) only [pup_x, pup_k, pup_c, true_and, and_true]) <;> omega
        · have := c5 k a (by omega)
          rw [zr _ (by omega) (by omega)]; (simp (disch := omega) only [pup_x, pup_k, pup_c, true_and, and_true]); exact this
      · by_cases hk : k = SM 1 0
        · rw [hk]; (simp (disch := omega) only [pup_x, pup_k, pup_c, true_and, and_true]); rw [z2]; omega
        · have := c6 k a (by omega)
          (simp (disch := omega) only [pup_x, pup_k, pup_c, true_and, and_true])
          rw [zr _ (by omega) (by omega)]; omega
      · by_cases hk : s = SM 1 0
        · rw [hk, z2]; (simp (disch := omega) only [pup_x, pup_k, pup_c, true_and, and_true]) <;> omega
        · have := c7 s a (by omega)
          rw [zr _ (by omega) (by omega)]; (simp (disch := omega) only [pup_x, pup_k, pup_c, true_and, and_true]) <;> omega
    · refine pBk_c g2.2.2.1.2 g3 (e 9 (by omega)) (fun i _ _ => e i (by omega)) (fun i i0 i1 => ?_)
      rw [z, if_neg (by omega), if_neg (by omega), if_neg (by omega), if_neg (by omega)]
    · intro k k0 k1
      rw [e0] at k1
      by_cases hk : k = SM 1 0
      · rw [hk, z, if_neg (by omega), if_neg (by omega), if_pos (by omega)]; (simp (disch := omega) only [pup_x, pup_k, pup_c, true_and, and_true]) <;> omega
      · have := g4 k k0 (by omega)
        rw [z, if_neg (by omega), if_neg (by omega), if_neg (by omega), if_neg (by omega)]; (simp (disch := omega) only [pup_x, pup_k, pup_c, true_and, and_true]); exact this
    · intro k k0 k1
      rw [e0] at k1
      by_cases hk : k = SM 1 0
      · rw [hk]; (simp (disch := omega) only [pup_x, pup_k, pup_c, true_and, and_true]) <;> omega
      · have := g5 k k0 (by omega)
        (simp (disch := omega) only [pup_x, pup_k, pup_c, true_and, and_true]); exact this
    · refine pTol_c (by omega) g11 (e _ (by omega)) (by omega) (fun i _ _ => e i (by omega)) (fun a i _ _ _ _ => ?_)
      try dsimp only
      rw [f _ (by omega)]
    · intro j j0 j1
      rw [e 3 (by omega)] at j1
      have : pStp (SM 1 0) (SC (41 + j.toNat)) (SM 1) (165 + 42 * j) := g12 j j0 j1
      rw [e0]
      obtain ⟨h0, h1, h2, h3, h4, h5, h6, h7, h8, h9⟩ := this
      have E : ∀ i, 165 ≤ i → pup (pup (pup (pup (pup SM 1 (23 + SM 1 0) a) 1 (29 + SM 1 0) b) 1 (11 + SM 1 0) b) 1 (17 + SM 1 0) (SM 1 0)) 1 0 (SM 1 0 + 1) 1 i = SM 1 i := fun i hi => e i (by omega)
      have zr : ∀ i, i ≠ 8 + SM 1 0 → i ≠ 2 + SM 1 0 → U (41 + j.toNat) i = SC (41 + j.toNat) i := fun i a b => by rw [z, if_neg (by omega), if_neg (by omega), if_neg (by omega), if_neg (by omega)]
      have z8 : U (41 + j.toNat) (8 + SM 1 0) = b := by rw [z, if_pos (by omega)]
      have z2 : U (41 + j.toNat) (2 + SM 1 0) = SM 1 0 := by rw [z, if_neg (by omega), if_pos (by omega), e20]
      unfold pStp
      try dsimp only
      rw [zr 0 (by omega) (by omega), zr 1 (by omega) (by omega), zr 15 (by omega) (by omega), zr 14 (by omega) (by omega), E _ (by omega), E _ (by omega), E _ (by omega), E _ (by omega), E _ (by omega)]
      refine ⟨by omega, h1, h2, h3, h4, fun k a b => ?_, fun k a b => ?_, fun s a b => ?_, fun k a b => ?_, fun i a b => ?_⟩
      · rw [zr _ (by omega) (by omega), E _ (by omega)]; exact h5 k a b
      · have := h6 k a b
        rw [E _ (by omega), zr _ (by omega) (by omega)]; exact this
      · have := h7 s a b
        rw [zr _ (by omega) (by omega), E _ (by omega)]; exact this
      · by_cases hk : k = SM 1 0
        · rw [hk, z2, z8]; (simp (disch := omega) only [pup_x, pup_k, pup_c, true_and, and_true]) <;> omega
        · have := h8 k a (by omega)
          rw [zr _ (by omega) (by omega), zr _ (by omega) (by omega)]; (simp (disch := omega) only [pup_x, pup_k, pup_c, true_and, and_true]); exact this
      · rw [zr _ (by omega) (by omega), zr _ (by omega) (by omega), zr _ (by omega) (by omega), zr _ (by omega) (by omega), E _ (by omega)]
        exact h9 i a b
  · repeat' (first | with_reducible refine pw_some ?_ | with_reducible refine pw_iteT ?_ | with_reducible refine pw_iteF ?_ | with_reducible refine pw_biteT ?_ | with_reducible refine pw_biteF ?_ | with_reducible refine pw_exiteT ?_ | with_reducible refine pw_exiteF ?_ | with_reducible refine pw_inr ?_ | with_reducible refine pw_inl ?_ | ((with_reducible refine pw_ite (fun _ => ?_) (fun _ => ?_)) <;> first | (exfalso; omega) | skip) | ((with_reducible refine pw_in (fun _ _ => ?_) (fun _ => ?_)) <;> first | (exfalso; omega) | skip) | ((with_reducible refine pw_isIn (fun _ _ => ?_) (fun _ => ?_)) <;> first | (exfalso; omega) | skip) | ((with_reducible refine pw_kin ?_ (fun _ _ => ?_) (fun _ => ?_)) ; (omega) <;> first | (exfalso; omega) | skip) | ((with_reducible refine pw_ckin ?_ (fun _ _ => ?_) (fun _ => ?_)); (omega) <;> first | (exfalso; omega) | skip) | ((with_reducible refine pw_many ?_); try simp (disch := omega) only [pup_x, pup_k, pup_c, pup_r]) | ((with_reducible refine pw_has0 ?_)) | ((with_reducible refine pw_has2 ?_)) | ((with_reducible refine pw_strapped ?_); try simp (disch := omega) only [pup_x, pup_k, pup_c, pup_r]) | ((with_reducible refine pw_ald ?_ ?_ ?_); omega; omega; try simp (disch := omega) only [pup_x, pup_k, pup_c, pup_r]) | ((with_reducible refine pw_ast ?_ ?_ ?_); omega; omega) | ((with_reducible refine pw_idx ?_ ?_ ?_); omega; omega) | ((with_reducible refine pw_cp ?_ ?_ ?_ ?_ ?_ ?_); omega; omega; omega; omega; omega) | ((with_reducible refine pw_p32 ?_ ?_ ?_); omega; omega) | ((with_reducible refine pw_p64 ?_ ?_ ?_); omega; omega) | ((with_reducible refine pw_zlt ?_); try simp (disch := omega) only [pup_x, pup_k, pup_c, pup_r]) | ((with_reducible refine pw_bo ?_ ?_); omega) | ((with_reducible refine pw_mod ?_ ?_ ?_); omega; omega) | ((with_reducible refine pw_div ?_ ?_ ?_); omega; omega) | ((with_reducible refine pw_bite (fun _ => ?_) (fun _ => ?_)) <;> first | (exfalso; omega) | skip) | ((with_reducible refine pw_bsome ?_)) | ((with_reducible refine pw_bzlt ?_)) | ((with_reducible refine pw_bp32 ?_ ?_ ?_); omega; omega) | ((with_reducible refine pw_bass ?_)) | ((with_reducible refine pw_bex ?_)) | ((with_reducible refine pw_exr ?_)) | ((with_reducible refine pw_exl ?_)) | ((with_reducible refine pw_exite (fun _ => ?_) (fun _ => ?_)) <;> first | (exfalso; omega) | skip) | ((with_reducible refine pw_exz ?_)) | ((with_reducible refine pw_exp ?_ ?_ ?_); omega; omega) | ((with_reducible refine pw_exb ?_)))
    all_goals first | with_reducible exact ⟨rfl, h⟩ | skip
set_option maxHeartbeats 1000000 in
theorem q_undo (h : pRel W SC SM) : pw (p_X0_undo SC) (fun z => pw (p_X2_undo SM) (fun t => z.1 = t.1 ∧ pRel W z.2 t.2)) := by
  obtain ⟨hn, hi, hm, ht⟩ := id h
  have hd := hn.1
  unfold pHd at hd
  unfold p_X0_undo p_X1_copy p_X2_undo
  by_cases hk : SM 1 3 = 0
  · repeat' (first | with_reducible refine pw_some ?_ | with_reducible refine pw_iteT ?_ | with_reducible refine pw_iteF ?_ | with_reducible refine pw_biteT ?_ | with_reducible refine pw_biteF ?_ | with_reducible refine pw_exiteT ?_ | with_reducible refine pw_exiteF ?_ | with_reducible refine pw_inr ?_ | with_reducible refine pw_inl ?_ | ((with_reducible refine pw_ite (fun _ => ?_) (fun _ => ?_)) <;> first | (exfalso; omega) | skip) | ((with_reducible refine pw_in (fun _ _ => ?_) (fun _ => ?_)) <;> first | (exfalso; omega) | skip) | ((with_reducible refine pw_isIn (fun _ _ => ?_) (fun _ => ?_)) <;> first | (exfalso; omega) | skip) | ((with_reducible refine pw_kin ?_ (fun _ _ => ?_) (fun _ => ?_)) ; (omega) <;> first | (exfalso; omega) | skip) | ((with_reducible refine pw_ckin ?_ (fun _ _ => ?_) (fun _ => ?_)); (omega) <;> first | (exfalso; omega) | skip) | ((with_reducible refine pw_many ?_); try simp (disch := omega) only [pup_x, pup_k, pup_c, pup_r]) | ((with_reducible refine pw_has0 ?_)) | ((with_reducible refine pw_has2 ?_)) | ((with_reducible refine pw_strapped ?_); try simp (disch := omega) only [pup_x, pup_k, pup_c, pup_r]) | ((with_reducible refine pw_ald ?_ ?_ ?_); omega; omega; try simp (disch := omega) only [pup_x, pup_k, pup_c, pup_r]) | ((with_reducible refine pw_ast ?_ ?_ ?_); omega; omega) | ((with_reducible refine pw_idx ?_ ?_ ?_); omega; omega) | ((with_reducible refine pw_cp ?_ ?_ ?_ ?_ ?_ ?_); omega; omega; omega; omega; omega) | ((with_reducible refine pw_p32 ?_ ?_ ?_); omega; omega) | ((with_reducible refine pw_p64 ?_ ?_ ?_); omega; omega) | ((with_reducible refine pw_zlt ?_); try simp (disch := omega) only [pup_x, pup_k, pup_c, pup_r]) | ((with_reducible refine pw_bo ?_ ?_); omega) | ((with_reducible refine pw_mod ?_ ?_ ?_); omega; omega) | ((with_reducible refine pw_div ?_ ?_ ?_); omega; omega) | ((with_reducible refine pw_bite (fun _ => ?_) (fun _ => ?_)) <;> first | (exfalso; omega) | skip) | ((with_reducible refine pw_bsome ?_)) | ((with_reducible refine pw_bzlt ?_)) | ((with_reducible refine pw_bp32 ?_ ?_ ?_); omega; omega) | ((with_reducible refine pw_bass ?_)) | ((with_reducible refine pw_bex ?_)) | ((with_reducible refine pw_exr ?_)) | ((with_reducible refine pw_exl ?_)) | ((with_reducible refine pw_exite (fun _ => ?_) (fun _ => ?_)) <;> first | (exfalso; omega) | skip) | ((with_reducible refine pw_exz ?_)) | ((with_reducible refine pw_exp ?_ ?_ ?_); omega; omega) | ((with_reducible refine pw_exb ?_)))
    all_goals first | with_reducible exact ⟨rfl, h⟩ | skip
  obtain ⟨g1, g2, g3, g4, g5, g6, g7, g8, g9, g10, g11, g12⟩ := id hn
  obtain ⟨x, hx⟩ : ∃ x, x = 165 + 42 * (SM 1 3 - 1) := ⟨_, rfl⟩
  have hs : pStp (SM 1 0) (SC (41 + (SM 1 3 - 1).toNat)) (SM 1) x := by rw [hx]; exact g12 (SM 1 3 - 1) (by omega) (by omega)
  obtain ⟨h0, h1, h2, h3, h4, h5, h6, h7, h8, h9⟩ := hs
  repeat' (first | with_reducible refine pw_some ?_ | with_reducible refine pw_iteT ?_ | with_reducible refine pw_iteF ?_ | with_reducible refine pw_biteT ?_ | with_reducible refine pw_biteF ?_ | with_reducible refine pw_exiteT ?_ | with_reducible refine pw_exiteF ?_ | with_reducible refine pw_inr ?_ | with_reducible refine pw_inl ?_ | ((with_reducible refine pw_ite (fun _ => ?_) (fun _ => ?_)) <;> first | (exfalso; omega) | skip) | ((with_reducible refine pw_in (fun _ _ => ?_) (fun _ => ?_)) <;> first | (exfalso; omega) | skip) | ((with_reducible refine pw_isIn (fun _ _ => ?_) (fun _ => ?_)) <;> first | (exfalso; omega) | skip) | ((with_reducible refine pw_kin ?_ (fun _ _ => ?_) (fun _ => ?_)) ; (omega) <;> first | (exfalso; omega) | skip) | ((with_reducible refine pw_ckin ?_ (fun _ _ => ?_) (fun _ => ?_)); (omega) <;> first | (exfalso; omega) | skip) | ((with_reducible refine pw_many ?_); try simp (disch := omega) only [pcpy_c, pup_x, pup_k, pup_c, pup_r]) | ((with_reducible refine pw_has0 ?_)) | ((with_reducible refine pw_has2 ?_)) | ((with_reducible refine pw_strapped ?_); try simp (disch := omega) only [pcpy_c, pup_x, pup_k, pup_c, pup_r]) | ((with_reducible refine pw_ald ?_ ?_ ?_); omega; omega; try simp (disch := omega) only [pcpy_c, pup_x, pup_k, pup_c, pup_r]) | ((with_reducible refine pw_ast ?_ ?_ ?_); omega; omega) | ((with_reducible refine pw_idx ?_ ?_ ?_); omega; omega) | ((with_reducible refine pw_cp ?_ ?_ ?_ ?_ ?_ ?_); omega; omega; omega; omega; omega) | ((with_reducible refine pw_p32 ?_ ?_ ?_); omega; omega) | ((with_reducible refine pw_p64 ?_ ?_ ?_); omega; omega) | ((with_reducible refine pw_zlt ?_); try simp (disch := omega) only [pcpy_c, pup_x, pup_k, pup_c, pup_r]) | ((with_reducible refine pw_bo ?_ ?_); omega) | ((with_reducible refine pw_mod ?_ ?_ ?_); omega; omega) | ((with_reducible refine pw_div ?_ ?_ ?_); omega; omega) | ((with_reducible refine pw_bite (fun _ => ?_) (fun _ => ?_)) <;> first | (exfalso; omega) | skip) | ((with_reducible refine pw_bsome ?_)) | ((with_reducible refine pw_bzlt ?_)) | ((with_reducible refine pw_bp32 ?_ ?_ ?_); omega; omega) | ((with_reducible refine pw_bass ?_)) | ((with_reducible refine pw_bex ?_)) | ((with_reducible refine pw_exr ?_)) | ((with_reducible refine pw_exl ?_)) | ((with_reducible refine pw_exite (fun _ => ?_) (fun _ => ?_)) <;> first | (exfalso; omega) | skip) | ((with_reducible refine pw_exz ?_)) | ((with_reducible refine pw_exp ?_ ?_ ?_); omega; omega) | ((with_reducible refine pw_exb ?_)))
  rw [← hx]
  obtain ⟨T, eT, hT⟩ := cp_loop (b := pb_X2_undo_37 x) (S := pup SM 1 3 (SM 1 3 - 1)) (cd := 1) (cs := 1) (d := 7) (s := x + 1) (N := 16) (by omega) (by omega) (by omega) (fun k T k0 k1 => pw_to (by
    unfold pb_X2_undo_37
    repeat' (first | with_reducible refine pw_some ?_ | with_reducible refine pw_iteT ?_ | with_reducible refine pw_iteF ?_ | with_reducible refine pw_biteT ?_ | with_reducible refine pw_biteF ?_ | with_reducible refine pw_exiteT ?_ | with_reducible refine pw_exiteF ?_ | with_reducible refine pw_inr ?_ | with_reducible refine pw_inl ?_ | ((with_reducible refine pw_ite (fun _ => ?_) (fun _ => ?_)) <;> first | (exfalso; omega) | skip) | ((with_reducible refine pw_in (fun _ _ => ?_) (fun _ => ?_)) <;> first | (exfalso; omega) | skip) | ((with_reducible refine pw_isIn (fun _ _ => ?_) (fun _ => ?_)) <;> first | (exfalso; omega) | skip) | ((with_reducible refine pw_kin ?_ (fun _ _ => ?_) (fun _ => ?_)) ; (omega) <;> first | (exfalso; omega) | skip) | ((with_reducible refine pw_ckin ?_ (fun _ _ => ?_) (fun _ => ?_)); (omega) <;> first | (exfalso; omega) | skip) | ((with_reducible refine pw_many ?_); try simp (disch := omega) only [pup_x, pup_k, pup_c, pup_r]) | ((with_reducible refine pw_has0 ?_)) | ((with_reducible refine pw_has2 ?_)) | ((with_reducible refine pw_strapped ?_); try simp (disch := omega) only [pup_x, pup_k, pup_c, pup_r]) | ((with_reducible refine pw_ald ?_ ?_ ?_); omega; omega; try simp (disch := omega) only [pup_x, pup_k, pup_c, pup_r]) | ((with_reducible refine pw_ast ?_ ?_ ?_); omega; omega) | ((with_reducible refine pw_idx ?_ ?_ ?_); omega; omega) | ((with_reducible refine pw_cp ?_ ?_ ?_ ?_ ?_ ?_); omega; omega; omega; omega; omega) | ((with_reducible refine pw_p32 ?_ ?_ ?_); omega; omega) | ((with_reducible refine pw_p64 ?_ ?_ ?_); omega; omega) | ((with_reducible refine pw_zlt ?_); try simp (disch := omega) only [pup_x, pup_k, pup_c, pup_r]) | ((with_reducible refine pw_bo ?_ ?_); omega) | ((with_reducible refine pw_mod ?_ ?_ ?_); omega; omega) | ((with_reducible refine pw_div ?_ ?_ ?_); omega; omega) | ((with_reducible refine pw_bite (fun _ => ?_) (fun _ => ?_)) <;> first | (exfalso; omega) | skip) | ((with_reducible refine pw_bsome ?_)) | ((with_reducible refine pw_bzlt ?_)) | ((with_reducible refine pw_bp32 ?_ ?_ ?_); omega; omega) | ((with_reducible refine pw_bass ?_)) | ((with_reducible refine pw_bex ?_)) | ((with_reducible refine pw_exr ?_)) | ((with_reducible refine pw_exl ?_)) | ((with_reducible refine pw_exite (fun _ => ?_) (fun _ => ?_)) <;> first | (exfalso; omega) | skip) | ((with_reducible refine pw_exz ?_)) | ((with_reducible refine pw_exp ?_ ?_ ?_); omega; omega) | ((with_reducible refine pw_exb ?_)))
    rfl)) (fun T => pw_to (by
    unfold pb_X2_undo_37
    repeat' (first | with_reducible refine pw_some ?_ | with_reducible refine pw_iteT ?_ | with_reducible refine pw_iteF ?_ | with_reducible refine pw_biteT ?_ | with_reducible refine pw_biteF ?_ | with_reducible refine pw_exiteT ?_ | with_reducible refine pw_exiteF ?_ | with_reducible refine pw_inr ?_ | with_reducible refine pw_inl ?_ | ((with_reducible refine pw_ite (fun _ => ?_) (fun _ => ?_)) <;> first | (exfalso; omega) | skip) | ((with_reducible refine pw_in (fun _ _ => ?_) (fun _ => ?_)) <;> first | (exfalso; omega) | skip) | ((with_reducible refine pw_isIn (fun _ _ => ?_) (fun _ => ?_)) <;> first | (exfalso; omega) | skip) | ((with_reducible refine pw_kin ?_ (fun _ _ => ?_) (fun _ => ?_)) ; (omega) <;> first | (exfalso; omega) | skip) | ((with_reducible refine pw_ckin ?_ (fun _ _ => ?_) (fun _ => ?_)); (omega) <;> first | (exfalso; omega) | skip) | ((with_reducible refine pw_many ?_); try simp (disch := omega) only [pup_x, pup_k, pup_c, pup_r]) | ((with_reducible refine pw_has0 ?_)) | ((with_reducible refine pw_has2 ?_)) | ((with_reducible refine pw_strapped ?_); try simp (disch := omega) only [pup_x, pup_k, pup_c, pup_r]) | ((with_reducible refine pw_ald ?_ ?_ ?_); omega; omega; try simp (disch := omega) only [pup_x, pup_k, pup_c, pup_r]) | ((with_reducible refine pw_ast ?_ ?_ ?_); omega; omega) | ((with_reducible refine pw_idx ?_ ?_ ?_); omega; omega) | ((with_reducible refine pw_cp ?_ ?_ ?_ ?_ ?_ ?_); omega; omega; omega; omega; omega) | ((with_reducible refine pw_p32 ?_ ?_ ?_); omega; omega) | ((with_reducible refine pw_p64 ?_ ?_ ?_); omega; omega) | ((with_reducible refine pw_zlt ?_); try simp (disch := omega) only [pup_x, pup_k, pup_c, pup_r]) | ((with_reducible refine pw_bo ?_ ?_); omega) | ((with_reducible refine pw_mod ?_ ?_ ?_); omega; omega) | ((with_reducible refine pw_div ?_ ?_ ?_); omega; omega) | ((with_reducible refine pw_bite (fun _ => ?_) (fun _ => ?_)) <;> first | (exfalso; omega) | skip) | ((with_reducible refine pw_bsome ?_)) | ((with_reducible refine pw_bzlt ?_)) | ((with_reducible refine pw_bp32 ?_ ?_ ?_); omega; omega) | ((with_reducible refine pw_bass ?_)) | ((with_reducible refine pw_bex ?_)) | ((with_reducible refine pw_exr ?_)) | ((with_reducible refine pw_exl ?_)) | ((with_reducible refine pw_exite (fun _ => ?_) (fun _ => ?_)) <;> first | (exfalso; omega) | skip) | ((with_reducible refine pw_exz ?_)) | ((with_reducible refine pw_exp ?_ ?_ ?_); omega; omega) | ((with_reducible refine pw_exb ?_)))
    rfl))
  refine pw_beq eT ?_
  have tx : T 1 x = SM 1 x := by rw [hT, if_neg (by omega)]; (simp (disch := omega) only [pup_x, pup_k, pup_c, true_and, and_true])
  repeat' (first | with_reducible refine pw_some ?_ | with_reducible refine pw_iteT ?_ | with_reducible refine pw_iteF ?_ | with_reducible refine pw_biteT ?_ | with_reducible refine pw_biteF ?_ | with_reducible refine pw_exiteT ?_ | with_reducible refine pw_exiteF ?_ | with_reducible refine pw_inr ?_ | with_reducible refine pw_inl ?_ | ((with_reducible refine pw_ite (fun _ => ?_) (fun _ => ?_)) <;> first | (exfalso; omega) | skip) | ((with_reducible refine pw_in (fun _ _ => ?_) (fun _ => ?_)) <;> first | (exfalso; omega) | skip) | ((with_reducible refine pw_isIn (fun _ _ => ?_) (fun _ => ?_)) <;> first | (exfalso; omega) | skip) | ((with_reducible refine pw_kin ?_ (fun _ _ => ?_) (fun _ => ?_)) ; (omega) <;> first | (exfalso; omega) | skip) | ((with_reducible refine pw_ckin ?_ (fun _ _ => ?_) (fun _ => ?_)); (omega) <;> first | (exfalso; omega) | skip) | ((with_reducible refine pw_many ?_); try simp (disch := omega) only [tx, pup_x, pup_k, pup_c, pup_r]) | ((with_reducible refine pw_has0 ?_)) | ((with_reducible refine pw_has2 ?_)) | ((with_reducible refine pw_strapped ?_); try simp (disch := omega) only [tx, pup_x, pup_k, pup_c, pup_r]) | ((with_reducible refine pw_ald ?_ ?_ ?_); omega; omega; try simp (disch := omega) only [tx, pup_x, pup_k, pup_c, pup_r]) | ((with_reducible refine pw_ast ?_ ?_ ?_); omega; omega) | ((with_reducible refine pw_idx ?_ ?_ ?_); omega; omega) | ((with_reducible refine pw_cp ?_ ?_ ?_ ?_ ?_ ?_); omega; omega; omega; omega; omega) | ((with_reducible refine pw_p32 ?_ ?_ ?_); omega; omega) | ((with_reducible refine pw_p64 ?_ ?_ ?_); omega; omega) | ((with_reducible refine pw_zlt ?_); try simp (disch := omega) only [tx, pup_x, pup_k, pup_c, pup_r]) | ((with_reducible refine pw_bo ?_ ?_); omega) | ((with_reducible refine pw_mod ?_ ?_ ?_); omega; omega) | ((with_reducible refine pw_div ?_ ?_ ?_); omega; omega) | ((with_reducible refine pw_bite (fun _ => ?_) (fun _ => ?_)) <;> first | (exfalso; omega) | skip) | ((with_reducible refine pw_bsome ?_)) | ((with_reducible refine pw_bzlt ?_)) | ((with_reducible refine pw_bp32 ?_ ?_ ?_); omega; omega) | ((with_reducible refine pw_bass ?_)) | ((with_reducible refine pw_bex ?_)) | ((with_reducible refine pw_exr ?_)) | ((with_reducible refine pw_exl ?_)) | ((with_reducible refine pw_exite (fun _ => ?_) (fun _ => ?_)) <;> first | (exfalso; omega) | skip) | ((with_reducible refine pw_exz ?_)) | ((with_reducible refine pw_exp ?_ ?_ ?_); omega; omega) | ((with_reducible refine pw_exb ?_)))
  have hl : pw (zLoop pb_X2_undo_75 zFuel (SM 1 x, T)) (fun U => ∀ c i, U c i = if c = 1 ∧ 11 + SM 1 x ≤ i ∧ i < 11 + SM 1 0 then SM 1 (i + 18) else if c = 1 ∧ 17 + SM 1 x ≤ i ∧ i < 17 + SM 1 0 then i - 17 else T c i) := by
    refine pw_lp (fun q => (SM 1 x ≤ q.1 ∧ q.1 ≤ SM 1 0) ∧ ∀ c i, q.2 c i = if c = 1 ∧ 11 + SM 1 x ≤ i ∧ i < 11 + q.1 then SM 1 (i + 18) else if c = 1 ∧ 17 + SM 1 x ≤ i ∧ i < 17 + q.1 then i - 17 else T c i) (fun q => (6 - q.1).toNat) ?_ ⟨⟨by dsimp only; omega, by dsimp only; omega⟩, fun c i => by dsimp only; rw [if_neg (by omega), if_neg (by omega)]⟩ (by dsimp only; omega)
    rintro ⟨k, U⟩ ⟨⟨k0, k1⟩, hU⟩
    try dsimp only at k0 k1 hU
    have u0 : U 1 0 = SM 1 0 := by rw [hU, if_neg (by omega), if_neg (by omega), hT, if_neg (by omega)]; (simp (disch := omega) only [pup_x, pup_k, pup_c, true_and, and_true])
    have u29 : ∀ k, 0 ≤ k → k < 6 → U 1 (29 + k) = SM 1 (29 + k) := fun k a b => by rw [hU, if_neg (by omega), if_neg (by omega), hT, if_neg (by omega)]; (simp (disch := omega) only [pup_x, pup_k, pup_c, true_and, and_true])
    unfold pb_X2_undo_75 p_X2_begin
    repeat' (first | with_reducible refine pw_some ?_ | with_reducible refine pw_iteT ?_ | with_reducible refine pw_iteF ?_ | with_reducible refine pw_biteT ?_ | with_reducible refine pw_biteF ?_ | with_reducible refine pw_exiteT ?_ | with_reducible refine pw_exiteF ?_ | with_reducible refine pw_inr ?_ | with_reducible refine pw_inl ?_ | ((with_reducible refine pw_ite (fun _ => ?_) (fun _ => ?_)) <;> first | (exfalso; omega) | skip) | ((with_reducible refine pw_in (fun _ _ => ?_) (fun _ => ?_)) <;> first | (exfalso; omega) | skip) | ((with_reducible refine pw_isIn (fun _ _ => ?_) (fun _ => ?_)) <;> first | (exfalso; omega) | skip) | ((with_reducible refine pw_kin ?_ (fun _ _ => ?_) (fun _ => ?_)) ; (omega) <;> first | (exfalso; omega) | skip) | ((with_reducible refine pw_ckin ?_ (fun _ _ => ?_) (fun _ => ?_)); (omega) <;> first | (exfalso; omega) | skip) | ((with_reducible refine pw_many ?_); try simp (disch := omega) only [u0, pup_x, pup_k, pup_c, pup_r]) | ((with_reducible refine pw_has0 ?_)) | ((with_reducible refine pw_has2 ?_)) | ((with_reducible refine pw_strapped ?_); try simp (disch := omega) only [u0, pup_x, pup_k, pup_c, pup_r]) | ((with_reducible refine pw_ald ?_ ?_ ?_); omega; omega; try simp (disch := omega) only [u0, pup_x, pup_k, pup_c, pup_r]) | ((with_reducible refine pw_ast ?_ ?_ ?_); omega; omega) | ((with_reducible refine pw_idx ?_ ?_ ?_); omega; omega) | ((with_reducible refine pw_cp ?_ ?_ ?_ ?_ ?_ ?_); omega; omega; omega; omega; omega) | ((with_reducible refine pw_p32 ?_ ?_ ?_); omega; omega) | ((with_reducible refine pw_p64 ?_ ?_ ?_); omega; omega) | ((with_reducible refine pw_zlt ?_); try simp (disch := omega) only [u0, pup_x, pup_k, pup_c, pup_r]) | ((with_reducible refine pw_bo ?_ ?_); omega) | ((with_reducible refine pw_mod ?_ ?_ ?_); omega; omega) | ((with_reducible refine pw_div ?_ ?_ ?_); omega; omega) | ((with_reducible refine pw_bite (fun _ => ?_) (fun _ => ?_)) <;> first | (exfalso; omega) | skip) | ((with_reducible refine pw_bsome ?_)) | ((with_reducible refine pw_bzlt ?_)) | ((with_reducible refine pw_bp32 ?_ ?_ ?_); omega; omega) | ((with_reducible refine pw_bass ?_)) | ((with_reducible refine pw_bex ?_)) | ((with_reducible refine pw_exr ?_)) | ((with_reducible refine pw_exl ?_)) | ((with_reducible refine pw_exite (fun _ => ?_) (fun _ => ?_)) <;> first | (exfalso; omega) | skip) | ((with_reducible refine pw_exz ?_)) | ((with_reducible refine pw_exp ?_ ?_ ?_); omega; omega) | ((with_reducible refine pw_exb ?_)))
    · intro c i
      have : k = SM 1 0 := by omega
      rw [hU, this]
    · refine ⟨⟨⟨by dsimp only; omega, by dsimp only; omega⟩, fun c i => ?_⟩, by dsimp only; omega⟩
      dsimp only
      rw [u29 k (by omega) (by omega)]
      by_cases hq : c = 1 ∧ i = 17 + k
      · rw [hq.1, hq.2, pup_e rfl, if_neg (by omega), if_pos (by omega)]; omega
      · rw [show ∀ S' : zP, pup S' 1 (17 + k) k c i = S' c i from fun S' => if_neg hq]
        by_cases hq2 : c = 1 ∧ i = 11 + k
        · rw [hq2.1, hq2.2, pup_e rfl, if_pos (by omega)]; exact ix _ (by omega)
        · rw [show ∀ (S' : zP) v, pup S' 1 (11 + k) v c i = S' c i from fun S' v => if_neg hq2, hU]
          by_cases hq3 : c = 1 ∧ 11 + SM 1 x ≤ i ∧ i < 11 + k
          · rw [if_pos hq3, if_pos (by omega)]
          · rw [if_neg hq3]
            by_cases hq4 : c = 1 ∧ 17 + SM 1 x ≤ i ∧ i < 17 + k
            · rw [if_pos hq4]
              by_cases hq5 : c = 1 ∧ 11 + SM 1 x ≤ i ∧ i < 11 + (k + 1)
              · omega
              · rw [if_neg hq5, if_pos (by omega)]
            · rw [if_neg hq4, if_neg (by omega), if_neg (by omega)]
  obtain ⟨U, eU, hU⟩ := hl
  refine pw_beq eU ?_
  obtain ⟨V, eV, hV⟩ := cp_loop (b := pb_X2_undo_98 x) (S := U) (cd := 1) (cs := 1) (d := 1425) (s := x + 1 + 16) (N := 25) (by omega) (by omega) (by omega) (fun k T k0 k1 => pw_to (by
    unfold pb_X2_undo_98
    repeat' (first | with_reducible refine pw_some ?_ | with_reducible refine pw_iteT ?_ | with_reducible refine pw_iteF ?_ | with_reducible refine pw_biteT ?_ | with_reducible refine pw_biteF ?_ | with_reducible refine pw_exiteT ?_ | with_reducible refine pw_exiteF ?_ | with_reducible refine pw_inr ?_ | with_reducible refine pw_inl ?_ | ((with_reducible refine pw_ite (fun _ => ?_) (fun _ => ?_)) <;> first | (exfalso; omega) | skip) | ((with_reducible refine pw_in (fun _ _ => ?_) (fun _ => ?_)) <;> first | (exfalso; omega) | skip) | ((with_reducible refine pw_isIn (fun _ _ => ?_) (fun _ => ?_)) <;> first | (exfalso; omega) | skip) | ((with_reducible refine pw_kin ?_ (fun _ _ => ?_) (fun _ => ?_)) ; (omega) <;> first | (exfalso; omega) | skip) | ((with_reducible refine pw_ckin ?_ (fun _ _ => ?_) (fun _ => ?_)); (omega) <;> first | (exfalso; omega) | skip) | ((with_reducible refine pw_many ?_); try simp (disch := omega) only [pup_x, pup_k, pup_c, pup_r]) | ((with_reducible refine pw_has0 ?_)) | ((with_reducible refine pw_has2 ?_)) | ((with_reducible refine pw_strapped ?_); try simp (disch := omega) only [pup_x, pup_k, pup_c, pup_r]) | ((with_reducible refine pw_ald ?_ ?_ ?_); omega; omega; try simp (disch := omega) only [pup_x, pup_k, pup_c, pup_r]) | ((with_reducible refine pw_ast ?_ ?_ ?_); omega; omega) | ((with_reducible refine pw_idx ?_ ?_ ?_); omega; omega) | ((with_reducible refine pw_cp ?_ ?_ ?_ ?_ ?_ ?_); omega; omega; omega; omega; omega) | ((with_reducible refine pw_p32 ?_ ?_ ?_); omega; omega) | ((with_reducible refine pw_p64 ?_ ?_ ?_); omega; omega) | ((with_reducible refine pw_zlt ?_); try simp (disch := omega) only [pup_x, pup_k, pup_c, pup_r]) | ((with_reducible refine pw_bo ?_ ?_); omega) | ((with_reducible refine pw_mod ?_ ?_ ?_); omega; omega) | ((with_reducible refine pw_div ?_ ?_ ?_); omega; omega) | ((with_reducible refine pw_bite (fun _ => ?_) (fun _ => ?_)) <;> first | (exfalso; omega) | skip) | ((with_reducible refine pw_bsome ?_)) | ((with_reducible refine pw_bzlt ?_)) | ((with_reducible refine pw_bp32 ?_ ?_ ?_); omega; omega) | ((with_reducible refine pw_bass ?_)) | ((with_reducible refine pw_bex ?_)) | ((with_reducible refine pw_exr ?_)) | ((with_reducible refine pw_exl ?_)) | ((with_reducible refine pw_exite (fun _ => ?_) (fun _ => ?_)) <;> first | (exfalso; omega) | skip) | ((with_reducible refine pw_exz ?_)) | ((with_reducible refine pw_exp ?_ ?_ ?_); omega; omega) | ((with_reducible refine pw_exb ?_)))
    rfl)) (fun T => pw_to (by
    unfold pb_X2_undo_98
    repeat' (first | with_reducible refine pw_some ?_ | with_reducible refine pw_iteT ?_ | with_reducible refine pw_iteF ?_ | with_reducible refine pw_biteT ?_ | with_reducible refine pw_biteF ?_ | with_reducible refine pw_exiteT ?_ | with_reducible refine pw_exiteF ?_ | with_reducible refine pw_inr ?_ | with_reducible refine pw_inl ?_ | ((with_reducible refine pw_ite (fun _ => ?_) (fun _ => ?_)) <;> first | (exfalso; omega) | skip) | ((with_reducible refine pw_in (fun _ _ => ?_) (fun _ => ?_)) <;> first | (exfalso; omega) | skip) | ((with_reducible refine pw_isIn (fun _ _ => ?_) (fun _ => ?_)) <;> first | (exfalso; omega) | skip) | ((with_reducible refine pw_kin ?_ (fun _ _ => ?_) (fun _ => ?_)) ; (omega) <;> first | (exfalso; omega) | skip) | ((with_reducible refine pw_ckin ?_ (fun _ _ => ?_) (fun _ => ?_)); (omega) <;> first | (exfalso; omega) | skip) | ((with_reducible refine pw_many ?_); try simp (disch := omega) only [pup_x, pup_k, pup_c, pup_r]) | ((with_reducible refine pw_has0 ?_)) | ((with_reducible refine pw_has2 ?_)) | ((with_reducible refine pw_strapped ?_); try simp (disch := omega) only [pup_x, pup_k, pup_c, pup_r]) | ((with_reducible refine pw_ald ?_ ?_ ?_); omega; omega; try simp (disch := omega) only [pup_x, pup_k, pup_c, pup_r]) | ((with_reducible refine pw_ast ?_ ?_ ?_); omega; omega) | ((with_reducible refine pw_idx ?_ ?_ ?_); omega; omega) | ((with_reducible refine pw_cp ?_ ?_ ?_ ?_ ?_ ?_); omega; omega; omega; omega; omega) | ((with_reducible refine pw_p32 ?_ ?_ ?_); omega; omega) | ((with_reducible refine pw_p64 ?_ ?_ ?_); omega; omega) | ((with_reducible refine pw_zlt ?_); try simp (disch := omega) only [pup_x, pup_k, pup_c, pup_r]) | ((with_reducible refine pw_bo ?_ ?_); omega) | ((with_reducible refine pw_mod ?_ ?_ ?_); omega; omega) | ((with_reducible refine pw_div ?_ ?_ ?_); omega; omega) | ((with_reducible refine pw_bite (fun _ => ?_) (fun _ => ?_)) <;> first | (exfalso; omega) | skip) | ((with_reducible refine pw_bsome ?_)) | ((with_reducible refine pw_bzlt ?_)) | ((with_reducible refine pw_bp32 ?_ ?_ ?_); omega; omega) | ((with_reducible refine pw_bass ?_)) | ((with_reducible refine pw_bex ?_)) | ((with_reducible refine pw_exr ?_)) | ((with_reducible refine pw_exl ?_)) | ((with_reducible refine pw_exite (fun _ => ?_) (fun _ => ?_)) <;> first | (exfalso; omega) | skip) | ((with_reducible refine pw_exz ?_)) | ((with_reducible refine pw_exp ?_ ?_ ?_); omega; omega) | ((with_reducible refine pw_exb ?_)))
    rfl))
  refine pw_beq eV ?_
  repeat' (first | with_reducible refine pw_some ?_ | with_reducible refine pw_iteT ?_ | with_reducible refine pw_iteF ?_ | with_reducible refine pw_biteT ?_ | with_reducible refine pw_biteF ?_ | with_reducible refine pw_exiteT ?_ | with_reducible refine pw_exiteF ?_ | with_reducible refine pw_inr ?_ | with_reducible refine pw_inl ?_ | ((with_reducible refine pw_ite (fun _ => ?_) (fun _ => ?_)) <;> first | (exfalso; omega) | skip) | ((with_reducible refine pw_in (fun _ _ => ?_) (fun _ => ?_)) <;> first | (exfalso; omega) | skip) | ((with_reducible refine pw_isIn (fun _ _ => ?_) (fun _ => ?_)) <;> first | (exfalso; omega) | skip) | ((with_reducible refine pw_kin ?_ (fun _ _ => ?_) (fun _ => ?_)) ; (omega) <;> first | (exfalso; omega) | skip) | ((with_reducible refine pw_ckin ?_ (fun _ _ => ?_) (fun _ => ?_)); (omega) <;> first | (exfalso; omega) | skip) | ((with_reducible refine pw_many ?_); try simp (disch := omega) only [pup_x, pup_k, pup_c, pup_r]) | ((with_reducible refine pw_has0 ?_)) | ((with_reducible refine pw_has2 ?_)) | ((with_reducible refine pw_strapped ?_); try simp (disch := omega) only [pup_x, pup_k, pup_c, pup_r]) | ((with_reducible refine pw_ald ?_ ?_ ?_); omega; omega; try simp (disch := omega) only [pup_x, pup_k, pup_c, pup_r]) | ((with_reducible refine pw_ast ?_ ?_ ?_); omega; omega) | ((with_reducible refine pw_idx ?_ ?_ ?_); omega; omega) | ((with_reducible refine pw_cp ?_ ?_ ?_ ?_ ?_ ?_); omega; omega; omega; omega; omega) | ((with_reducible refine pw_p32 ?_ ?_ ?_); omega; omega) | ((with_reducible refine pw_p64 ?_ ?_ ?_); omega; omega) | ((with_reducible refine pw_zlt ?_); try simp (disch := omega) only [pup_x, pup_k, pup_c, pup_r]) | ((with_reducible refine pw_bo ?_ ?_); omega) | ((with_reducible refine pw_mod ?_ ?_ ?_); omega; omega) | ((with_reducible refine pw_div ?_ ?_ ?_); omega; omega) | ((with_reducible refine pw_bite (fun _ => ?_) (fun _ => ?_)) <;> first | (exfalso; omega) | skip) | ((with_reducible refine pw_bsome ?_)) | ((with_reducible refine pw_bzlt ?_)) | ((with_reducible refine pw_bp32 ?_ ?_ ?_); omega; omega) | ((with_reducible refine pw_bass ?_)) | ((with_reducible refine pw_bex ?_)) | ((with_reducible refine pw_exr ?_)) | ((with_reducible refine pw_exl ?_)) | ((with_reducible refine pw_exite (fun _ => ?_) (fun _ => ?_)) <;> first | (exfalso; omega) | skip) | ((with_reducible refine pw_exz ?_)) | ((with_reducible refine pw_exp ?_ ?_ ?_); omega; omega) | ((with_reducible refine pw_exb ?_)))
  have vo : ∀ i, i < 7 ∨ 22 < i → i < 1425 ∨ 1450 ≤ i → i ≠ 3 → V 1 i = SM 1 i := fun i a b c => by rw [hV, if_neg (by omega), hU, if_neg (by omega), if_neg (by omega), hT, if_neg (by omega)]; (simp (disch := omega) only [pup_x, pup_k, pup_c, true_and, and_true])
  have v3 : V 1 3 = SM 1 3 - 1 := by rw [hV, if_neg (by omega), hU, if_neg (by omega), if_neg (by omega), hT, if_neg (by omega)]; (simp (disch := omega) only [pup_x, pup_k, pup_c, true_and, and_true])
  have vc : ∀ c, c ≠ 1 → V c = SM c := fun c hc => funext fun i => by rw [hV, if_neg (by omega), hU, if_neg (by omega), if_neg (by omega), hT, if_neg (by omega)]; (simp (disch := omega) only [pup_x, pup_k, pup_c, true_and, and_true])
  have v7 : ∀ k, 0 ≤ k → k < 4 → V 1 (7 + k) = SM 1 (x + 1 + k) := fun k a b => by
    rw [hV, if_neg (by omega), hU, if_neg (by omega), if_neg (by omega), hT, if_pos (by omega), pup_k (by omega)]; exact ix _ (by omega)
  have v11 : ∀ k, 0 ≤ k → k < SM 1 x → V 1 (11 + k) = SM 1 (x + 5 + k) := fun k a b => by
    rw [hV, if_neg (by omega), hU, if_neg (by omega), if_neg (by omega), hT, if_pos (by omega), pup_k (by omega)]; exact ix _ (by omega)
  have v11' : ∀ k, SM 1 x ≤ k → k < SM 1 0 → V 1 (11 + k) = SM 1 (29 + k) := fun k a b => by
    rw [hV, if_neg (by omega), hU, if_pos (by omega)]; exact ix _ (by omega)
  have v17 : ∀ k, 0 ≤ k → k < SM 1 x → V 1 (17 + k) = SM 1 (x + 11 + k) := fun k a b => by
    rw [hV, if_neg (by omega), hU, if_neg (by omega), if_neg (by omega), hT, if_pos (by omega), pup_k (by omega)]; exact ix _ (by omega)
  have v17' : ∀ k, SM 1 x ≤ k → k < SM 1 0 → V 1 (17 + k) = k := fun k a b => by
    rw [hV, if_neg (by omega), hU, if_neg (by omega), if_pos (by omega)]; omega
  have vb : ∀ k, 0 ≤ k → k < 25 → V 1 (1425 + k) = SM 1 (x + 17 + k) := fun k a b => by
    rw [hV, if_pos (by omega), hU, if_neg (by omega), if_neg (by omega), hT, if_neg (by omega), pup_k (by omega)]; exact ix _ (by omega)
  have zr : ∀ i, 0 ≤ i → i < 116 → pcpy (pup SC 2 3 (SC 2 3 - 1)) (41 + (SC 2 3 - 1).toNat) 0 3 0 ((116 : Nat) : Int) 3 i = SC (41 + (SM 1 3 - 1).toNat) i := fun i a b => by
    rw [pcpy_i (by omega) (by omega), pup_c (by omega)]
    exact (ix _ (by omega)).trans (cx _ (by omega))
  refine ⟨by dsimp only; omega, ?_⟩
  try dsimp only
  refine now_u (fun i => i ≠ 3 ∧ (i < 7 ∨ 22 < i) ∧ (i < 1425 ∨ 1450 ≤ i)) (fun c => c ≠ 2 ∧ c ≠ 3) h (by first | omega | (intros; omega)) (by first | omega | (intros; omega)) (fun i hi => vo i hi.2.1 hi.2.2 hi.1) vc (fun c hc => funext fun i => by rw [pcpy_c hc.2, pup_c hc.1]) (fun e f => ?_)
  try dsimp only at e f
  have e0 := e 0 (by omega)
  unfold pNow pSt
  rw [e0]
  refine ⟨?_, ?_, ?_, pTem_c (by omega) g4 e0 (fun i _ _ => e i (by omega)) (fun i _ _ => by rw [f _ (by omega)]), pBeg_c (by omega) g5 e0 (fun i _ _ => e i (by omega)), pSpi_c g6 (fun i _ _ => e i (by omega)) (fun a i _ _ _ _ => by rw [f _ (by omega)]), pHed_c g7 (fun i _ _ => e i (by omega)) (fun i _ _ => by rw [f _ (by omega)]), pGue_c (by omega) g8 (e _ (by omega)) (fun i _ _ => e i (by omega)) (fun a i _ _ _ _ => by rw [f _ (by omega)]), pGai_c g9 (fun i _ _ => e i (by omega)) (fun i _ _ => by rw [f _ (by omega)]) (fun i _ _ => by rw [f _ (by omega)]), pSay_c (by omega) g10 (e _ (by omega)) (fun i _ _ => e i (by omega)) (fun a i _ _ _ _ => by rw [f _ (by omega)]), pTol_c (by omega) g11 (e _ (by omega)) (by omega) (fun i _ _ => e i (by omega)) (fun a i _ _ _ _ => by rw [f _ (by omega)]), ?_⟩
  · unfold pHd
    simp (disch := omega) only [pup_x, pup_k, pup_c, pcpy_c]
    rw [v3, e 0 (by omega), e 1 (by omega), e 2 (by omega), e 4 (by omega), e 5 (by omega), e 6 (by omega)]
    omega
  · unfold pCur
    have w0 := v7 0 (by omega) (by omega)
    have w1 := v7 1 (by omega) (by omega)
    have w2 := v7 2 (by omega) (by omega)
    have w3 := v7 3 (by omega) (by omega)
    have y0 : SM 1 (x + 1 + 0) = SM 1 (x + 1) := ix _ (by omega)
    have y1 : SM 1 (x + 1 + 1) = SM 1 (x + 2) := ix _ (by omega)
    have y2 : SM 1 (x + 1 + 2) = SM 1 (x + 3) := ix _ (by omega)
    have y3 : SM 1 (x + 1 + 3) = SM 1 (x + 4) := ix _ (by omega)
    simp only [Int.reduceAdd] at w0 w1 w2 w3
    rw [w0, w1, w2, w3, y0, y1, y2, y3, zr 0 (by omega) (by omega), zr 1 (by omega) (by omega), zr 15 (by omega) (by omega), zr 14 (by omega) (by omega)]
    refine ⟨h1, h2, h3, h4, fun k a b => ?_, fun k a b => ?_, fun s a b => ?_⟩
    · rw [zr _ (by omega) (by omega)]
      by_cases hq : k < SM 1 x
      · rw [v11 k a hq]; exact h5 k a hq
      · have := h8 k (by omega) b
        have := g5 k a b
        rw [v11' k (by omega) b]; omega
    · by_cases hq : k < SM 1 x
      · have := h6 k a hq
        rw [v17 k a hq, zr _ (by omega) (by omega)]
        exact ⟨this.1, by omega, this.2.2⟩
      · have := h8 k (by omega) b
        rw [v17' k (by omega) b, zr _ (by omega) (by omega)]
        exact ⟨a, b, this.1⟩
    · rw [zr _ (by omega) (by omega)]
      by_cases hq : s < SM 1 x
      · have := h7 s a hq
        rw [v17 _ (by omega) (by omega)]
        exact ⟨this.1, by omega, this.2.2⟩
      · have := h8 s (by omega) b
        try dsimp only at this
        rw [this.1, v17' s (by omega) b]
        exact ⟨a, b, rfl⟩
  · intro k a b
    have w2 := v7 2 (by omega) (by omega)
    have y2 : SM 1 (x + 1 + 2) = SM 1 (x + 3) := ix _ (by omega)
    simp only [Int.reduceAdd] at w2
    rw [w2, y2] at b
    rw [vb k a (by omega), zr _ (by omega) (by omega), zr _ (by omega) (by omega), zr _ (by omega) (by omega), zr _ (by omega) (by omega)]
    exact h9 k a b
  · intro j j0 j1
    rw [v3] at j1
    rw [e0]
    exact pStp_c (by omega) (by omega) (g12 j j0 (by omega)) (fun i _ _ => e i (by omega)) (fun i _ _ => e i (by omega)) (fun i _ _ => by dsimp only; rw [f _ (by omega)])
end
