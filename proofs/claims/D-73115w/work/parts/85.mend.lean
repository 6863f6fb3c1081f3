/-! PURE, two seats swapped on trial -/
set_option maxRecDepth 100000
section
variable {W : pW} {S T : zP}
set_option maxHeartbeats 1000000 in
theorem k_try (h : pRel W S T) {a b : Int} (a0 : 0 ≤ a) (a1 : a < T 1 0) (b0 : 0 ≤ b) (b1 : b < T 1 0) (hab : a ≠ b) : ∃ v Z T1 T2 T3, p_X0_spiteBy S a b = some (v, Z) ∧ (∀ c, c ≠ 145 → Z c = S c) ∧ p_X2_swapNow T a b = some T1 ∧ p_X2_spiteOfSeats T1 = some (v, T2) ∧ p_X2_swapNow T2 a b = some T3 ∧ (∀ c, c ≠ 10 → T3 c = T c) ∧ 0 ≤ v ∧ v ≤ 594 := by
  have hd := h.1.1
  unfold pHd at hd
  have n6 : T 1 0 ≤ 6 := by omega
  have sn : S 2 0 = T 1 0 := by omega
  clear hd
  have hc := h.1.2.1
  have hs := h.1.2.2.2.2.2.1
  have ca := hc.2.2.2.2.2.1 a a0 a1
  have cb := hc.2.2.2.2.2.1 b b0 b1
  have nab : T 1 (17 + a) ≠ T 1 (17 + b) := by intro x; rw [x] at ca; omega
  obtain ⟨B, hB⟩ : ∃ B, B = pcpy S 3 0 145 0 ((116 : Nat) : Int) := ⟨_, rfl⟩
  have b145 : ∀ i, 0 ≤ i → i < 116 → B 145 i = S 3 i := fun i h0 h1 => by
    rw [hB, pcpy_i (by omega) (by omega)]; exact ix _ (by omega)
  have bc : ∀ c, c ≠ 145 → B c = S c := fun c h0 => by funext i; rw [hB]; exact pcpy_c h0
  have hcB : pCur (T 1 0) (B 145) (T 1) := pCur_c n6 hc (fun _ _ _ => rfl) (fun i a b => b145 i a (by omega))
  have hc3 : pCur (T 1 0) (B 3) (T 1) := by rw [bc 3 (by omega)]; exact hc
  obtain ⟨D, hD⟩ : ∃ D, D = pup (pup B 145 (2 + T 1 (17 + a)) (B 145 (2 + T 1 (17 + b)))) 145 (2 + T 1 (17 + b)) (B 145 (2 + T 1 (17 + a))) := ⟨_, rfl⟩
  obtain ⟨T1, hT1⟩ : ∃ T1, T1 = pup (pup T 1 (17 + a) (T 1 (17 + b))) 1 (17 + b) (T 1 (17 + a)) := ⟨_, rfl⟩
  have dc : ∀ c, c ≠ 145 → D c = S c := fun c hc => by rw [hD, pup_r hc, pup_r hc]; exact bc c hc
  have t1c : ∀ c, c ≠ 1 → T1 c = T c := fun c hc => by rw [hT1, pup_r hc, pup_r hc]
  have t1i : ∀ i, i ≠ 17 + a → i ≠ 17 + b → T1 1 i = T 1 i := fun i x y => by rw [hT1, pup_k y, pup_k x]
  have t1a : T1 1 (17 + a) = T 1 (17 + b) := by rw [hT1, pup_k (by omega), pup_e rfl]
  have t1b : T1 1 (17 + b) = T 1 (17 + a) := by rw [hT1, pup_e rfl]
  have t10 : T1 1 0 = T 1 0 := t1i 0 (by omega) (by omega)
  have hcD : pCur (T 1 0) (D 145) (T1 1) := by
    have ca' := hcB.2.2.2.2.2.1 a a0 a1
    have cb' := hcB.2.2.2.2.2.1 b b0 b1
    refine pCur_swap (a := a) (b := b) n6 hcB a0 a1 b0 b1 hab (fun i x y _ _ => t1i i x y) t1a t1b (fun i x y _ _ => ?_) ?_ ?_
    · rw [hD, pup_k y, pup_k x]
    · rw [hD, pup_k (by omega), pup_e rfl]; exact cb'.2.2
    · rw [hD, pup_e rfl]; exact ca'.2.2
  have hsD : pSpi (fun k => D (9 + k.toNat)) (T1 1) := pSpi_c hs (fun i x y => t1i i (by omega) (by omega)) (fun k i x y _ _ => by
    show D (9 + k.toNat) i = S (9 + k.toNat) i
    rw [dc _ (by omega)])
  obtain ⟨v, U, e1, e2, e3, v0, v1⟩ := k_spiteSeats (S := D) (T := T1) (c := 145) (Or.inr rfl) hsD (by rw [dc 2 (by omega), t10]; exact sn) (by omega) (by omega) (by rw [t10]; exact hcD)
  have u1 : U 1 = T1 1 := e3 1 (by omega)
  refine ⟨v, D, T1, U, pup (pup U 1 (17 + a) (U 1 (17 + b))) 1 (17 + b) (U 1 (17 + a)), pw_to ?_, dc, pw_to ?_, e2, pw_to ?_, fun c hc => ?_, v0, v1⟩
  · unfold p_X0_spiteBy p_X1_copy
    repeat' (first | with_reducible refine pw_some ?_ | with_reducible refine pw_iteT ?_ | with_reducible refine pw_iteF ?_ | with_reducible refine pw_biteT ?_ | with_reducible refine pw_biteF ?_ | with_reducible refine pw_exiteT ?_ | with_reducible refine pw_exiteF ?_ | with_reducible refine pw_inr ?_ | with_reducible refine pw_inl ?_ | ((with_reducible refine pw_ite (fun _ => ?_) (fun _ => ?_)) <;> first | (exfalso; omega) | skip) | ((with_reducible refine pw_in (fun _ _ => ?_) (fun _ => ?_)) <;> first | (exfalso; omega) | skip) | ((with_reducible refine pw_isIn (fun _ _ => ?_) (fun _ => ?_)) <;> first | (exfalso; omega) | skip) | ((with_reducible refine pw_kin ?_ (fun _ _ => ?_) (fun _ => ?_)) ; (omega) <;> first | (exfalso; omega) | skip) | ((with_reducible refine pw_ckin ?_ (fun _ _ => ?_) (fun _ => ?_)); (omega) <;> first | (exfalso; omega) | skip) | ((with_reducible refine pw_many ?_); try simp (disch := omega) only [pup_x, pup_k, pup_c, pup_r]) | ((with_reducible refine pw_has0 ?_)) | ((with_reducible refine pw_has2 ?_)) | ((with_reducible refine pw_strapped ?_); try simp (disch := omega) only [pup_x, pup_k, pup_c, pup_r]) | ((with_reducible refine pw_ald ?_ ?_ ?_); omega; omega; try simp (disch := omega) only [pup_x, pup_k, pup_c, pup_r]) | ((with_reducible refine pw_ast ?_ ?_ ?_); omega; omega) | ((with_reducible refine pw_idx ?_ ?_ ?_); omega; omega) | ((with_reducible refine pw_cp ?_ ?_ ?_ ?_ ?_ ?_); omega; omega; omega; omega; omega) | ((with_reducible refine pw_p32 ?_ ?_ ?_); omega; omega) | ((with_reducible refine pw_p64 ?_ ?_ ?_); omega; omega) | ((with_reducible refine pw_zlt ?_); try simp (disch := omega) only [pup_x, pup_k, pup_c, pup_r]) | ((with_reducible refine pw_bo ?_ ?_); omega) | ((with_reducible refine pw_mod ?_ ?_ ?_); omega; omega) | ((with_reducible refine pw_div ?_ ?_ ?_); omega; omega) | ((with_reducible refine pw_bite (fun _ => ?_) (fun _ => ?_)) <;> first | (exfalso; omega) | skip) | ((with_reducible refine pw_bsome ?_)) | ((with_reducible refine pw_bzlt ?_)) | ((with_reducible refine pw_bp32 ?_ ?_ ?_); omega; omega) | ((with_reducible refine pw_bass ?_)) | ((with_reducible refine pw_bex ?_)) | ((with_reducible refine pw_exr ?_)) | ((with_reducible refine pw_exl ?_)) | ((with_reducible refine pw_exite (fun _ => ?_) (fun _ => ?_)) <;> first | (exfalso; omega) | skip) | ((with_reducible refine pw_exz ?_)) | ((with_reducible refine pw_exp ?_ ?_ ?_); omega; omega) | ((with_reducible refine pw_exb ?_)))
    rw [← hB]
    refine pw_beq (k_seatOf n6 hc3 a0 a1) (pw_beq (k_seatOf n6 hc3 b0 b1) ?_)
    unfold p_X0_swaps
    repeat' (first | with_reducible refine pw_some ?_ | with_reducible refine pw_iteT ?_ | with_reducible refine pw_iteF ?_ | with_reducible refine pw_biteT ?_ | with_reducible refine pw_biteF ?_ | with_reducible refine pw_exiteT ?_ | with_reducible refine pw_exiteF ?_ | with_reducible refine pw_inr ?_ | with_reducible refine pw_inl ?_ | ((with_reducible refine pw_ite (fun _ => ?_) (fun _ => ?_)) <;> first | (exfalso; omega) | skip) | ((with_reducible refine pw_in (fun _ _ => ?_) (fun _ => ?_)) <;> first | (exfalso; omega) | skip) | ((with_reducible refine pw_isIn (fun _ _ => ?_) (fun _ => ?_)) <;> first | (exfalso; omega) | skip) | ((with_reducible refine pw_kin ?_ (fun _ _ => ?_) (fun _ => ?_)) ; (omega) <;> first | (exfalso; omega) | skip) | ((with_reducible refine pw_ckin ?_ (fun _ _ => ?_) (fun _ => ?_)); (omega) <;> first | (exfalso; omega) | skip) | ((with_reducible refine pw_many ?_); try simp (disch := omega) only [pup_x, pup_k, pup_c, pup_r]) | ((with_reducible refine pw_has0 ?_)) | ((with_reducible refine pw_has2 ?_)) | ((with_reducible refine pw_strapped ?_); try simp (disch := omega) only [pup_x, pup_k, pup_c, pup_r]) | ((with_reducible refine pw_ald ?_ ?_ ?_); omega; omega; try simp (disch := omega) only [pup_x, pup_k, pup_c, pup_r]) | ((with_reducible refine pw_ast ?_ ?_ ?_); omega; omega) | ((with_reducible refine pw_idx ?_ ?_ ?_); omega; omega) | ((with_reducible refine pw_cp ?_ ?_ ?_ ?_ ?_ ?_); omega; omega; omega; omega; omega) | ((with_reducible refine pw_p32 ?_ ?_ ?_); omega; omega) | ((with_reducible refine pw_p64 ?_ ?_ ?_); omega; omega) | ((with_reducible refine pw_zlt ?_); try simp (disch := omega) only [pup_x, pup_k, pup_c, pup_r]) | ((with_reducible refine pw_bo ?_ ?_); omega) | ((with_reducible refine pw_mod ?_ ?_ ?_); omega; omega) | ((with_reducible refine pw_div ?_ ?_ ?_); omega; omega) | ((with_reducible refine pw_bite (fun _ => ?_) (fun _ => ?_)) <;> first | (exfalso; omega) | skip) | ((with_reducible refine pw_bsome ?_)) | ((with_reducible refine pw_bzlt ?_)) | ((with_reducible refine pw_bp32 ?_ ?_ ?_); omega; omega) | ((with_reducible refine pw_bass ?_)) | ((with_reducible refine pw_bex ?_)) | ((with_reducible refine pw_exr ?_)) | ((with_reducible refine pw_exl ?_)) | ((with_reducible refine pw_exite (fun _ => ?_) (fun _ => ?_)) <;> first | (exfalso; omega) | skip) | ((with_reducible refine pw_exz ?_)) | ((with_reducible refine pw_exp ?_ ?_ ?_); omega; omega) | ((with_reducible refine pw_exb ?_)))
    rw [← hD]
    refine pw_beq e1 ?_
    exact pw_some rfl
  · unfold p_X2_swapNow
    repeat' (first | with_reducible refine pw_some ?_ | with_reducible refine pw_iteT ?_ | with_reducible refine pw_iteF ?_ | with_reducible refine pw_biteT ?_ | with_reducible refine pw_biteF ?_ | with_reducible refine pw_exiteT ?_ | with_reducible refine pw_exiteF ?_ | with_reducible refine pw_inr ?_ | with_reducible refine pw_inl ?_ | ((with_reducible refine pw_ite (fun _ => ?_) (fun _ => ?_)) <;> first | (exfalso; omega) | skip) | ((with_reducible refine pw_in (fun _ _ => ?_) (fun _ => ?_)) <;> first | (exfalso; omega) | skip) | ((with_reducible refine pw_isIn (fun _ _ => ?_) (fun _ => ?_)) <;> first | (exfalso; omega) | skip) | ((with_reducible refine pw_kin ?_ (fun _ _ => ?_) (fun _ => ?_)) ; (omega) <;> first | (exfalso; omega) | skip) | ((with_reducible refine pw_ckin ?_ (fun _ _ => ?_) (fun _ => ?_)); (omega) <;> first | (exfalso; omega) | skip) | ((with_reducible refine pw_many ?_); try simp (disch := omega) only [pup_x, pup_k, pup_c, pup_r]) | ((with_reducible refine pw_has0 ?_)) | ((with_reducible refine pw_has2 ?_)) | ((with_reducible refine pw_strapped ?_); try simp (disch := omega) only [pup_x, pup_k, pup_c, pup_r]) | ((with_reducible refine pw_ald ?_ ?_ ?_); omega; omega; try simp (disch := omega) only [pup_x, pup_k, pup_c, pup_r]) | ((with_reducible refine pw_ast ?_ ?_ ?_); omega; omega) | ((with_reducible refine pw_idx ?_ ?_ ?_); omega; omega) | ((with_reducible refine pw_cp ?_ ?_ ?_ ?_ ?_ ?_); omega; omega; omega; omega; omega) | ((with_reducible refine pw_p32 ?_ ?_ ?_); omega; omega) | ((with_reducible refine pw_p64 ?_ ?_ ?_); omega; omega) | ((with_reducible refine pw_zlt ?_); try simp (disch := omega) only [pup_x, pup_k, pup_c, pup_r]) | ((with_reducible refine pw_bo ?_ ?_); omega) | ((with_reducible refine pw_mod ?_ ?_ ?_); omega; omega) | ((with_reducible refine pw_div ?_ ?_ ?_); omega; omega) | ((with_reducible refine pw_bite (fun _ => ?_) (fun _ => ?_)) <;> first | (exfalso; omega) | skip) | ((with_reducible refine pw_bsome ?_)) | ((with_reducible refine pw_bzlt ?_)) | ((with_reducible refine pw_bp32 ?_ ?_ ?_); omega; omega) | ((with_reducible refine pw_bass ?_)) | ((with_reducible refine pw_bex ?_)) | ((with_reducible refine pw_exr ?_)) | ((with_reducible refine pw_exl ?_)) | ((with_reducible refine pw_exite (fun _ => ?_) (fun _ => ?_)) <;> first | (exfalso; omega) | skip) | ((with_reducible refine pw_exz ?_)) | ((with_reducible refine pw_exp ?_ ?_ ?_); omega; omega) | ((with_reducible refine pw_exb ?_)))
    exact hT1.symm
  · unfold p_X2_swapNow
    repeat' (first | with_reducible refine pw_some ?_ | with_reducible refine pw_iteT ?_ | with_reducible refine pw_iteF ?_ | with_reducible refine pw_biteT ?_ | with_reducible refine pw_biteF ?_ | with_reducible refine pw_exiteT ?_ | with_reducible refine pw_exiteF ?_ | with_reducible refine pw_inr ?_ | with_reducible refine pw_inl ?_ | ((with_reducible refine pw_ite (fun _ => ?_) (fun _ => ?_)) <;> first | (exfalso; omega) | skip) | ((with_reducible refine pw_in (fun _ _ => ?_) (fun _ => ?_)) <;> first | (exfalso; omega) | skip) | ((with_reducible refine pw_isIn (fun _ _ => ?_) (fun _ => ?_)) <;> first | (exfalso; omega) | skip) | ((with_reducible refine pw_kin ?_ (fun _ _ => ?_) (fun _ => ?_)) ; (omega) <;> first | (exfalso; omega) | skip) | ((with_reducible refine pw_ckin ?_ (fun _ _ => ?_) (fun _ => ?_)); (omega) <;> first | (exfalso; omega) | skip) | ((with_reducible refine pw_many ?_); try simp (disch := omega) only [pup_x, pup_k, pup_c, pup_r]) | ((with_reducible refine pw_has0 ?_)) | ((with_reducible refine pw_has2 ?_)) | ((with_reducible refine pw_strapped ?_); try simp (disch := omega) only [pup_x, pup_k, pup_c, pup_r]) | ((with_reducible refine pw_ald ?_ ?_ ?_); omega; omega; try simp (disch := omega) only [pup_x, pup_k, pup_c, pup_r]) | ((with_reducible refine pw_ast ?_ ?_ ?_); omega; omega) | ((with_reducible refine pw_idx ?_ ?_ ?_); omega; omega) | ((with_reducible refine pw_cp ?_ ?_ ?_ ?_ ?_ ?_); omega; omega; omega; omega; omega) | ((with_reducible refine pw_p32 ?_ ?_ ?_); omega; omega) | ((with_reducible refine pw_p64 ?_ ?_ ?_); omega; omega) | ((with_reducible refine pw_zlt ?_); try simp (disch := omega) only [pup_x, pup_k, pup_c, pup_r]) | ((with_reducible refine pw_bo ?_ ?_); omega) | ((with_reducible refine pw_mod ?_ ?_ ?_); omega; omega) | ((with_reducible refine pw_div ?_ ?_ ?_); omega; omega) | ((with_reducible refine pw_bite (fun _ => ?_) (fun _ => ?_)) <;> first | (exfalso; omega) | skip) | ((with_reducible refine pw_bsome ?_)) | ((with_reducible refine pw_bzlt ?_)) | ((with_reducible refine pw_bp32 ?_ ?_ ?_); omega; omega) | ((with_reducible refine pw_bass ?_)) | ((with_reducible refine pw_bex ?_)) | ((with_reducible refine pw_exr ?_)) | ((with_reducible refine pw_exl ?_)) | ((with_reducible refine pw_exite (fun _ => ?_) (fun _ => ?_)) <;> first | (exfalso; omega) | skip) | ((with_reducible refine pw_exz ?_)) | ((with_reducible refine pw_exp ?_ ?_ ?_); omega; omega) | ((with_reducible refine pw_exb ?_)))
    rfl
  · by_cases h1 : c = 1
    · subst h1
      funext i
      by_cases hb : i = 17 + b
      · rw [hb, pup_e rfl, u1, t1a]
      · by_cases ha : i = 17 + a
        · rw [ha, pup_k (by omega), pup_e rfl, u1, t1b]
        · rw [pup_k hb, pup_k ha, u1, t1i i ha hb]
    · rw [pup_r h1, pup_r h1, e3 c hc, t1c c h1]
end
