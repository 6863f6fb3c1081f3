/-! PURE, the spite now -/
set_option maxRecDepth 100000
section
variable {W : pW} {S T : zP}
set_option maxHeartbeats 1000000 in
theorem k_seats {r : Int → Int} {n : Int} (n0 : 0 ≤ n) (n6 : n ≤ 6) (e0 : T 1 0 = n) (h : pCur n r (T 1)) : ∃ U, zLoop pb_X2_spiteOfSeats_2 zFuel (0, T) = some U ∧ (∀ c, c ≠ 10 → U c = T c) ∧ ∀ s, 0 ≤ s → s < n → U 10 s = r (2 + s) := by
  have h6 := h.2.2.2.2.2.1
  have h7 := h.2.2.2.2.2.2
  have main : pw (zLoop pb_X2_spiteOfSeats_2 zFuel (0, T)) (fun U => (∀ c, c ≠ 10 → U c = T c) ∧ ∀ s, 0 ≤ s → s < n → U 10 s = r (2 + s)) := by
    refine pw_lp (fun s => (0 ≤ s.1 ∧ s.1 ≤ n) ∧ (∀ c, c ≠ 10 → s.2 c = T c) ∧ ∀ k, 0 ≤ k → k < s.1 → s.2 10 (T 1 (17 + k)) = k) (fun s => (n - s.1).toNat) ?_ ⟨by first | (dsimp only; omega) | omega, fun _ _ => rfl, fun k a b => absurd b (by dsimp only; omega)⟩ (by first | (dsimp only; omega) | omega)
    rintro ⟨i, U⟩ ⟨⟨i0, i1⟩, u1, u2⟩
    dsimp only at i0 i1 u1 u2
    have un : U 1 0 = n := by rw [u1 1 (by omega)]; exact e0
    unfold pb_X2_spiteOfSeats_2
    dsimp only
    by_cases hi : i = n
    · repeat' (first | with_reducible refine pw_some ?_ | with_reducible refine pw_iteT ?_ | with_reducible refine pw_iteF ?_ | with_reducible refine pw_biteT ?_ | with_reducible refine pw_biteF ?_ | with_reducible refine pw_exiteT ?_ | with_reducible refine pw_exiteF ?_ | with_reducible refine pw_inr ?_ | with_reducible refine pw_inl ?_ | ((with_reducible refine pw_ite (fun _ => ?_) (fun _ => ?_)) <;> first | (exfalso; omega) | skip) | ((with_reducible refine pw_in (fun _ _ => ?_) (fun _ => ?_)) <;> first | (exfalso; omega) | skip) | ((with_reducible refine pw_isIn (fun _ _ => ?_) (fun _ => ?_)) <;> first | (exfalso; omega) | skip) | ((with_reducible refine pw_kin ?_ (fun _ _ => ?_) (fun _ => ?_)) ; (omega) <;> first | (exfalso; omega) | skip) | ((with_reducible refine pw_ckin ?_ (fun _ _ => ?_) (fun _ => ?_)); (omega) <;> first | (exfalso; omega) | skip) | ((with_reducible refine pw_many ?_); try simp (disch := omega) only [un, pup_x, pup_k, pup_c, pup_r]) | ((with_reducible refine pw_has0 ?_)) | ((with_reducible refine pw_has2 ?_)) | ((with_reducible refine pw_strapped ?_); try simp (disch := omega) only [un, pup_x, pup_k, pup_c, pup_r]) | ((with_reducible refine pw_ald ?_ ?_ ?_); omega; omega; try simp (disch := omega) only [un, pup_x, pup_k, pup_c, pup_r]) | ((with_reducible refine pw_ast ?_ ?_ ?_); omega; omega) | ((with_reducible refine pw_idx ?_ ?_ ?_); omega; omega) | ((with_reducible refine pw_cp ?_ ?_ ?_ ?_ ?_ ?_); omega; omega; omega; omega; omega) | ((with_reducible refine pw_p32 ?_ ?_ ?_); omega; omega) | ((with_reducible refine pw_p64 ?_ ?_ ?_); omega; omega) | ((with_reducible refine pw_zlt ?_); try simp (disch := omega) only [un, pup_x, pup_k, pup_c, pup_r]) | ((with_reducible refine pw_bo ?_ ?_); omega) | ((with_reducible refine pw_mod ?_ ?_ ?_); omega; omega) | ((with_reducible refine pw_div ?_ ?_ ?_); omega; omega) | ((with_reducible refine pw_bite (fun _ => ?_) (fun _ => ?_)) <;> first | (exfalso; omega) | skip) | ((with_reducible refine pw_bsome ?_)) | ((with_reducible refine pw_bzlt ?_)) | ((with_reducible refine pw_bp32 ?_ ?_ ?_); omega; omega) | ((with_reducible refine pw_bass ?_)) | ((with_reducible refine pw_bex ?_)) | ((with_reducible refine pw_exr ?_)) | ((with_reducible refine pw_exl ?_)) | ((with_reducible refine pw_exite (fun _ => ?_) (fun _ => ?_)) <;> first | (exfalso; omega) | skip) | ((with_reducible refine pw_exz ?_)) | ((with_reducible refine pw_exp ?_ ?_ ?_); omega; omega) | ((with_reducible refine pw_exb ?_)))
      refine ⟨u1, fun s a b => ?_⟩
      have hq := h7 s a b
      have := u2 _ hq.1 (by omega)
      rw [hq.2.2] at this
      exact this
    · have hk := h6 i i0 (by omega)
      have ui : U 1 (17 + i) = T 1 (17 + i) := by rw [u1 1 (by omega)]
      repeat' (first | with_reducible refine pw_some ?_ | with_reducible refine pw_iteT ?_ | with_reducible refine pw_iteF ?_ | with_reducible refine pw_biteT ?_ | with_reducible refine pw_biteF ?_ | with_reducible refine pw_exiteT ?_ | with_reducible refine pw_exiteF ?_ | with_reducible refine pw_inr ?_ | with_reducible refine pw_inl ?_ | ((with_reducible refine pw_ite (fun _ => ?_) (fun _ => ?_)) <;> first | (exfalso; omega) | skip) | ((with_reducible refine pw_in (fun _ _ => ?_) (fun _ => ?_)) <;> first | (exfalso; omega) | skip) | ((with_reducible refine pw_isIn (fun _ _ => ?_) (fun _ => ?_)) <;> first | (exfalso; omega) | skip) | ((with_reducible refine pw_kin ?_ (fun _ _ => ?_) (fun _ => ?_)) ; (omega) <;> first | (exfalso; omega) | skip) | ((with_reducible refine pw_ckin ?_ (fun _ _ => ?_) (fun _ => ?_)); (omega) <;> first | (exfalso; omega) | skip) | ((with_reducible refine pw_many ?_); try simp (disch := omega) only [un, ui, pup_x, pup_k, pup_c, pup_r]) | ((with_reducible refine pw_has0 ?_)) | ((with_reducible refine pw_has2 ?_)) | ((with_reducible refine pw_strapped ?_); try simp (disch := omega) only [un, ui, pup_x, pup_k, pup_c, pup_r]) | ((with_reducible refine pw_ald ?_ ?_ ?_); omega; omega; try simp (disch := omega) only [un, ui, pup_x, pup_k, pup_c, pup_r]) | ((with_reducible refine pw_ast ?_ ?_ ?_); omega; omega) | ((with_reducible refine pw_idx ?_ ?_ ?_); omega; omega) | ((with_reducible refine pw_cp ?_ ?_ ?_ ?_ ?_ ?_); omega; omega; omega; omega; omega) | ((with_reducible refine pw_p32 ?_ ?_ ?_); omega; omega) | ((with_reducible refine pw_p64 ?_ ?_ ?_); omega; omega) | ((with_reducible refine pw_zlt ?_); try simp (disch := omega) only [un, ui, pup_x, pup_k, pup_c, pup_r]) | ((with_reducible refine pw_bo ?_ ?_); omega) | ((with_reducible refine pw_mod ?_ ?_ ?_); omega; omega) | ((with_reducible refine pw_div ?_ ?_ ?_); omega; omega) | ((with_reducible refine pw_bite (fun _ => ?_) (fun _ => ?_)) <;> first | (exfalso; omega) | skip) | ((with_reducible refine pw_bsome ?_)) | ((with_reducible refine pw_bzlt ?_)) | ((with_reducible refine pw_bp32 ?_ ?_ ?_); omega; omega) | ((with_reducible refine pw_bass ?_)) | ((with_reducible refine pw_bex ?_)) | ((with_reducible refine pw_exr ?_)) | ((with_reducible refine pw_exl ?_)) | ((with_reducible refine pw_exite (fun _ => ?_) (fun _ => ?_)) <;> first | (exfalso; omega) | skip) | ((with_reducible refine pw_exz ?_)) | ((with_reducible refine pw_exp ?_ ?_ ?_); omega; omega) | ((with_reducible refine pw_exb ?_)))
      refine ⟨⟨by first | (dsimp only; omega) | omega, fun c hc => ?_, fun k a b => ?_⟩, by first | (dsimp only; omega) | omega⟩
      · dsimp only
        rw [pup_r hc]; exact u1 c hc
      · dsimp only at b
        dsimp only
        by_cases hki : k = i
        · rw [hki, pup_e rfl]
        · have hk2 := h6 k a (by omega)
          have hne : T 1 (17 + k) ≠ T 1 (17 + i) := by intro x; rw [x] at hk2; omega
          rw [pup_k hne]
          exact u2 k a (by omega)
  obtain ⟨U, e, hU⟩ := main
  exact ⟨U, e, hU⟩
/-! the spite of a row of seats against the model's seats -/
theorem k_spiteSeats {c : Nat} (hc : c = 3 ∨ c = 145) (hs : pSpi (fun k => S (9 + k.toNat)) (T 1)) (hn : S 2 0 = T 1 0) (n0 : 0 ≤ T 1 0) (n6 : T 1 0 ≤ 6) (h : pCur (T 1 0) (S c) (T 1)) : ∃ v U, p_X0_spiteAround S c 116 2 = some v ∧ p_X2_spiteOfSeats T = some (v, U) ∧ (∀ c, c ≠ 10 → U c = T c) ∧ 0 ≤ v ∧ v ≤ 594 := by
  obtain ⟨U, eU, u1, u2⟩ := k_seats n0 n6 rfl h
  have h7 := h.2.2.2.2.2.2
  have e1 : U 1 = T 1 := u1 1 (by omega)
  obtain ⟨v, v1, v2, v3, v4⟩ := k_spiteRow (S := S) (T := U) (c := c) (na := 116) (o := 2) (by rw [e1]; exact hs) (by rw [e1]; exact hn) (by rw [e1]; exact n0) (by rw [e1]; exact n6) (by omega) (by rw [e1]; omega) (by omega) (fun s a b => by rw [e1] at b; rw [e1]; have := h7 s a b; omega) (fun s a b => by rw [e1] at b; exact u2 s a b)
  refine ⟨v, U, v1, pw_to ?_, u1, v3, v4⟩
  unfold p_X2_spiteOfSeats
  exact pw_beq eU (pw_beq v2 (pw_some rfl))
theorem pRel_y {u : zP} (h : pRel W S T) (f : ∀ c', c' ≠ 10 → u c' = T c') : pRel W S u :=
  pRel_w h (fun _ _ _ => rfl) (fun _ _ => rfl) (fun c a b => f c (by omega)) (fun i _ => congrFun (f 0 (by omega)) i)
theorem q_spiteNow (h : pRel W S T) : pw (p_X0_spiteNow S) (fun z => pw (p_X2_spiteNow T) (fun t => z = t.1 ∧ pRel W S t.2)) := by
  have hd := h.1.1
  unfold pHd at hd
  obtain ⟨v, U, e1, e2, e3, -⟩ := k_spiteSeats (S := S) (T := T) (Or.inl rfl) h.1.2.2.2.2.2.1 (by omega) (by omega) (by omega) h.1.2.1
  unfold p_X0_spiteNow p_X2_spiteNow
  exact pw_beq e1 (pw_some (pw_beq e2 (pw_some ⟨rfl, pRel_y h e3⟩)))
end
