/-! PURE, the spite around a row: both -/
set_option maxRecDepth 100000
def pFw (A r : Int → Int) (n : Int) : Nat → Int
  | 0 => 0
  | k + 1 => pFw A r n k + A (35 + 6 * r (k : Int) + r (((k : Int) + 1) % n))
section
variable {W : pW} {S T : zP} {A r : Int → Int} {n : Int}
theorem k_fw (h : ∀ a b, 0 ≤ a → a < 6 → 0 ≤ b → b < 6 → 0 ≤ A (35 + 6 * a + b) ∧ A (35 + 6 * a + b) ≤ 99) (n0 : 0 < n) (n6 : n ≤ 6) (hr : ∀ s, 0 ≤ s → s < n → 0 ≤ r s ∧ r s < n) : ∀ k : Nat, (k : Int) ≤ n → 0 ≤ pFw A r n k ∧ pFw A r n k ≤ 99 * (k : Int)
  | 0, _ => ⟨Int.le_refl _, by show (0 : Int) ≤ _; omega⟩
  | k + 1, hk => by
    have g := k_fw h n0 n6 hr k (by omega)
    have h1 := hr (k : Int) (by omega) (by omega)
    have h2 := hr (((k : Int) + 1) % n) (Int.emod_nonneg _ (by omega)) (Int.emod_lt_of_pos _ n0)
    have h3 := h _ _ h1.1 (by omega) h2.1 (by omega)
    unfold pFw
    omega
theorem pFw_s {i : Int} (i0 : 0 ≤ i) : pFw A r n (i + 1).toNat = pFw A r n i.toNat + A (35 + 6 * r i + r ((i + 1) % n)) := by
  rw [show (i + 1).toNat = i.toNat + 1 by omega]
  show pFw A r n i.toNat + A (35 + 6 * r ((i.toNat : Nat) : Int) + r ((((i.toNat : Nat) : Int) + 1) % n)) = _
  rw [Int.toNat_of_nonneg i0]
set_option maxHeartbeats 1000000 in
theorem k_spiteRow {c na : Nat} {o : Int} (hs : pSpi (fun k => S (9 + k.toNat)) (T 1)) (hn : S 2 0 = T 1 0) (n0 : 0 ≤ T 1 0) (n6 : T 1 0 ≤ 6) (ho : 0 ≤ o) (hna : o + T 1 0 ≤ (na : Int)) (hna2 : na ≤ 1000) (hr : ∀ s, 0 ≤ s → s < T 1 0 → 0 ≤ S c (o + s) ∧ S c (o + s) < T 1 0) (ht : ∀ s, 0 ≤ s → s < T 1 0 → T 10 s = S c (o + s)) : ∃ v, p_X0_spiteAround S c na o = some v ∧ p_X2_spiteOfRow T = some v ∧ 0 ≤ v ∧ v ≤ 594 := by
  have hA : ∀ a b, 0 ≤ a → a < 6 → 0 ≤ b → b < 6 → 0 ≤ T 1 (35 + 6 * a + b) ∧ T 1 (35 + 6 * a + b) ≤ 99 := fun a b a0 a1 b0 b1 => (hs a b a0 a1 b0 b1).2.2.1 |> fun x => ⟨x, (hs a b a0 a1 b0 b1).2.2.2.1⟩
  obtain ⟨r, hrr⟩ : ∃ r : Int → Int, ∀ s, r s = S c (o + s) := ⟨fun s => S c (o + s), fun _ => rfl⟩
  have hr' : ∀ s, 0 ≤ s → s < T 1 0 → 0 ≤ r s ∧ r s < T 1 0 := fun s a b => by rw [hrr]; exact hr s a b
  have ht' : ∀ s, 0 ≤ s → s < T 1 0 → T 10 s = r s := fun s a b => by rw [hrr]; exact ht s a b
  by_cases hz : T 1 0 = 0
  · refine ⟨0, pw_to ?_, pw_to ?_, by omega, by omega⟩
    · unfold p_X0_spiteAround
      refine pw_bind (fun v => v = 0) (pw_lp (fun s => s = (0, 0)) (fun _ => 0) ?_ rfl (by omega)) (fun v hv => ?_)
      · rintro s rfl
        unfold pb_X0_spiteAround_5
        dsimp only
        repeat' (first | with_reducible refine pw_some ?_ | with_reducible refine pw_iteT ?_ | with_reducible refine pw_iteF ?_ | with_reducible refine pw_biteT ?_ | with_reducible refine pw_biteF ?_ | with_reducible refine pw_exiteT ?_ | with_reducible refine pw_exiteF ?_ | with_reducible refine pw_inr ?_ | with_reducible refine pw_inl ?_ | ((with_reducible refine pw_ite (fun _ => ?_) (fun _ => ?_)) <;> first | (exfalso; omega) | skip) | ((with_reducible refine pw_in (fun _ _ => ?_) (fun _ => ?_)) <;> first | (exfalso; omega) | skip) | ((with_reducible refine pw_isIn (fun _ _ => ?_) (fun _ => ?_)) <;> first | (exfalso; omega) | skip) | ((with_reducible refine pw_kin ?_ (fun _ _ => ?_) (fun _ => ?_)) ; (omega) <;> first | (exfalso; omega) | skip) | ((with_reducible refine pw_ckin ?_ (fun _ _ => ?_) (fun _ => ?_)); (omega) <;> first | (exfalso; omega) | skip) | ((with_reducible refine pw_many ?_); try simp (disch := omega) only [pup_x, pup_k, pup_c, pup_r]) | ((with_reducible refine pw_has0 ?_)) | ((with_reducible refine pw_has2 ?_)) | ((with_reducible refine pw_strapped ?_); try simp (disch := omega) only [pup_x, pup_k, pup_c, pup_r]) | ((with_reducible refine pw_ald ?_ ?_ ?_); omega; omega; try simp (disch := omega) only [pup_x, pup_k, pup_c, pup_r]) | ((with_reducible refine pw_ast ?_ ?_ ?_); omega; omega) | ((with_reducible refine pw_idx ?_ ?_ ?_); omega; omega) | ((with_reducible refine pw_cp ?_ ?_ ?_ ?_ ?_ ?_); omega; omega; omega; omega; omega) | ((with_reducible refine pw_p32 ?_ ?_ ?_); omega; omega) | ((with_reducible refine pw_p64 ?_ ?_ ?_); omega; omega) | ((with_reducible refine pw_zlt ?_); try simp (disch := omega) only [pup_x, pup_k, pup_c, pup_r]) | ((with_reducible refine pw_bo ?_ ?_); omega) | ((with_reducible refine pw_mod ?_ ?_ ?_); omega; omega) | ((with_reducible refine pw_div ?_ ?_ ?_); omega; omega) | ((with_reducible refine pw_bite (fun _ => ?_) (fun _ => ?_)) <;> first | (exfalso; omega) | skip) | ((with_reducible refine pw_bsome ?_)) | ((with_reducible refine pw_bzlt ?_)) | ((with_reducible refine pw_bp32 ?_ ?_ ?_); omega; omega) | ((with_reducible refine pw_bass ?_)) | ((with_reducible refine pw_bex ?_)) | ((with_reducible refine pw_exr ?_)) | ((with_reducible refine pw_exl ?_)) | ((with_reducible refine pw_exite (fun _ => ?_) (fun _ => ?_)) <;> first | (exfalso; omega) | skip) | ((with_reducible refine pw_exz ?_)) | ((with_reducible refine pw_exp ?_ ?_ ?_); omega; omega) | ((with_reducible refine pw_exb ?_)))
        rfl
      · subst hv
        repeat' (first | with_reducible refine pw_some ?_ | with_reducible refine pw_iteT ?_ | with_reducible refine pw_iteF ?_ | with_reducible refine pw_biteT ?_ | with_reducible refine pw_biteF ?_ | with_reducible refine pw_exiteT ?_ | with_reducible refine pw_exiteF ?_ | with_reducible refine pw_inr ?_ | with_reducible refine pw_inl ?_ | ((with_reducible refine pw_ite (fun _ => ?_) (fun _ => ?_)) <;> first | (exfalso; omega) | skip) | ((with_reducible refine pw_in (fun _ _ => ?_) (fun _ => ?_)) <;> first | (exfalso; omega) | skip) | ((with_reducible refine pw_isIn (fun _ _ => ?_) (fun _ => ?_)) <;> first | (exfalso; omega) | skip) | ((with_reducible refine pw_kin ?_ (fun _ _ => ?_) (fun _ => ?_)) ; (omega) <;> first | (exfalso; omega) | skip) | ((with_reducible refine pw_ckin ?_ (fun _ _ => ?_) (fun _ => ?_)); (omega) <;> first | (exfalso; omega) | skip) | ((with_reducible refine pw_many ?_); try simp (disch := omega) only [pup_x, pup_k, pup_c, pup_r]) | ((with_reducible refine pw_has0 ?_)) | ((with_reducible refine pw_has2 ?_)) | ((with_reducible refine pw_strapped ?_); try simp (disch := omega) only [pup_x, pup_k, pup_c, pup_r]) | ((with_reducible refine pw_ald ?_ ?_ ?_); omega; omega; try simp (disch := omega) only [pup_x, pup_k, pup_c, pup_r]) | ((with_reducible refine pw_ast ?_ ?_ ?_); omega; omega) | ((with_reducible refine pw_idx ?_ ?_ ?_); omega; omega) | ((with_reducible refine pw_cp ?_ ?_ ?_ ?_ ?_ ?_); omega; omega; omega; omega; omega) | ((with_reducible refine pw_p32 ?_ ?_ ?_); omega; omega) | ((with_reducible refine pw_p64 ?_ ?_ ?_); omega; omega) | ((with_reducible refine pw_zlt ?_); try simp (disch := omega) only [pup_x, pup_k, pup_c, pup_r]) | ((with_reducible refine pw_bo ?_ ?_); omega) | ((with_reducible refine pw_mod ?_ ?_ ?_); omega; omega) | ((with_reducible refine pw_div ?_ ?_ ?_); omega; omega) | ((with_reducible refine pw_bite (fun _ => ?_) (fun _ => ?_)) <;> first | (exfalso; omega) | skip) | ((with_reducible refine pw_bsome ?_)) | ((with_reducible refine pw_bzlt ?_)) | ((with_reducible refine pw_bp32 ?_ ?_ ?_); omega; omega) | ((with_reducible refine pw_bass ?_)) | ((with_reducible refine pw_bex ?_)) | ((with_reducible refine pw_exr ?_)) | ((with_reducible refine pw_exl ?_)) | ((with_reducible refine pw_exite (fun _ => ?_) (fun _ => ?_)) <;> first | (exfalso; omega) | skip) | ((with_reducible refine pw_exz ?_)) | ((with_reducible refine pw_exp ?_ ?_ ?_); omega; omega) | ((with_reducible refine pw_exb ?_)))
        rfl
    · unfold p_X2_spiteOfRow
      repeat' (first | with_reducible refine pw_some ?_ | with_reducible refine pw_iteT ?_ | with_reducible refine pw_iteF ?_ | with_reducible refine pw_biteT ?_ | with_reducible refine pw_biteF ?_ | with_reducible refine pw_exiteT ?_ | with_reducible refine pw_exiteF ?_ | with_reducible refine pw_inr ?_ | with_reducible refine pw_inl ?_ | ((with_reducible refine pw_ite (fun _ => ?_) (fun _ => ?_)) <;> first | (exfalso; omega) | skip) | ((with_reducible refine pw_in (fun _ _ => ?_) (fun _ => ?_)) <;> first | (exfalso; omega) | skip) | ((with_reducible refine pw_isIn (fun _ _ => ?_) (fun _ => ?_)) <;> first | (exfalso; omega) | skip) | ((with_reducible refine pw_kin ?_ (fun _ _ => ?_) (fun _ => ?_)) ; (omega) <;> first | (exfalso; omega) | skip) | ((with_reducible refine pw_ckin ?_ (fun _ _ => ?_) (fun _ => ?_)); (omega) <;> first | (exfalso; omega) | skip) | ((with_reducible refine pw_many ?_); try simp (disch := omega) only [pup_x, pup_k, pup_c, pup_r]) | ((with_reducible refine pw_has0 ?_)) | ((with_reducible refine pw_has2 ?_)) | ((with_reducible refine pw_strapped ?_); try simp (disch := omega) only [pup_x, pup_k, pup_c, pup_r]) | ((with_reducible refine pw_ald ?_ ?_ ?_); omega; omega; try simp (disch := omega) only [pup_x, pup_k, pup_c, pup_r]) | ((with_reducible refine pw_ast ?_ ?_ ?_); omega; omega) | ((with_reducible refine pw_idx ?_ ?_ ?_); omega; omega) | ((with_reducible refine pw_cp ?_ ?_ ?_ ?_ ?_ ?_); omega; omega; omega; omega; omega) | ((with_reducible refine pw_p32 ?_ ?_ ?_); omega; omega) | ((with_reducible refine pw_p64 ?_ ?_ ?_); omega; omega) | ((with_reducible refine pw_zlt ?_); try simp (disch := omega) only [pup_x, pup_k, pup_c, pup_r]) | ((with_reducible refine pw_bo ?_ ?_); omega) | ((with_reducible refine pw_mod ?_ ?_ ?_); omega; omega) | ((with_reducible refine pw_div ?_ ?_ ?_); omega; omega) | ((with_reducible refine pw_bite (fun _ => ?_) (fun _ => ?_)) <;> first | (exfalso; omega) | skip) | ((with_reducible refine pw_bsome ?_)) | ((with_reducible refine pw_bzlt ?_)) | ((with_reducible refine pw_bp32 ?_ ?_ ?_); omega; omega) | ((with_reducible refine pw_bass ?_)) | ((with_reducible refine pw_bex ?_)) | ((with_reducible refine pw_exr ?_)) | ((with_reducible refine pw_exl ?_)) | ((with_reducible refine pw_exite (fun _ => ?_) (fun _ => ?_)) <;> first | (exfalso; omega) | skip) | ((with_reducible refine pw_exz ?_)) | ((with_reducible refine pw_exp ?_ ?_ ?_); omega; omega) | ((with_reducible refine pw_exb ?_)))
      refine pw_bind (fun v => v = 0) (pw_lp (fun s => s = (0, 0)) (fun _ => 0) ?_ rfl (by omega)) (fun v hv => pw_some hv)
      rintro s rfl
      unfold pb_X2_spiteOfRow_11
      dsimp only
      repeat' (first | with_reducible refine pw_some ?_ | with_reducible refine pw_iteT ?_ | with_reducible refine pw_iteF ?_ | with_reducible refine pw_biteT ?_ | with_reducible refine pw_biteF ?_ | with_reducible refine pw_exiteT ?_ | with_reducible refine pw_exiteF ?_ | with_reducible refine pw_inr ?_ | with_reducible refine pw_inl ?_ | ((with_reducible refine pw_ite (fun _ => ?_) (fun _ => ?_)) <;> first | (exfalso; omega) | skip) | ((with_reducible refine pw_in (fun _ _ => ?_) (fun _ => ?_)) <;> first | (exfalso; omega) | skip) | ((with_reducible refine pw_isIn (fun _ _ => ?_) (fun _ => ?_)) <;> first | (exfalso; omega) | skip) | ((with_reducible refine pw_kin ?_ (fun _ _ => ?_) (fun _ => ?_)) ; (omega) <;> first | (exfalso; omega) | skip) | ((with_reducible refine pw_ckin ?_ (fun _ _ => ?_) (fun _ => ?_)); (omega) <;> first | (exfalso; omega) | skip) | ((with_reducible refine pw_many ?_); try simp (disch := omega) only [pup_x, pup_k, pup_c, pup_r]) | ((with_reducible refine pw_has0 ?_)) | ((with_reducible refine pw_has2 ?_)) | ((with_reducible refine pw_strapped ?_); try simp (disch := omega) only [pup_x, pup_k, pup_c, pup_r]) | ((with_reducible refine pw_ald ?_ ?_ ?_); omega; omega; try simp (disch := omega) only [pup_x, pup_k, pup_c, pup_r]) | ((with_reducible refine pw_ast ?_ ?_ ?_); omega; omega) | ((with_reducible refine pw_idx ?_ ?_ ?_); omega; omega) | ((with_reducible refine pw_cp ?_ ?_ ?_ ?_ ?_ ?_); omega; omega; omega; omega; omega) | ((with_reducible refine pw_p32 ?_ ?_ ?_); omega; omega) | ((with_reducible refine pw_p64 ?_ ?_ ?_); omega; omega) | ((with_reducible refine pw_zlt ?_); try simp (disch := omega) only [pup_x, pup_k, pup_c, pup_r]) | ((with_reducible refine pw_bo ?_ ?_); omega) | ((with_reducible refine pw_mod ?_ ?_ ?_); omega; omega) | ((with_reducible refine pw_div ?_ ?_ ?_); omega; omega) | ((with_reducible refine pw_bite (fun _ => ?_) (fun _ => ?_)) <;> first | (exfalso; omega) | skip) | ((with_reducible refine pw_bsome ?_)) | ((with_reducible refine pw_bzlt ?_)) | ((with_reducible refine pw_bp32 ?_ ?_ ?_); omega; omega) | ((with_reducible refine pw_bass ?_)) | ((with_reducible refine pw_bex ?_)) | ((with_reducible refine pw_exr ?_)) | ((with_reducible refine pw_exl ?_)) | ((with_reducible refine pw_exite (fun _ => ?_) (fun _ => ?_)) <;> first | (exfalso; omega) | skip) | ((with_reducible refine pw_exz ?_)) | ((with_reducible refine pw_exp ?_ ?_ ?_); omega; omega) | ((with_reducible refine pw_exb ?_)))
      rfl
  · have np : 0 < T 1 0 := by omega
    have hF := k_fw (r := r) hA np n6 hr'
    have hm : ∀ i : Int, 0 ≤ (i + 1) % T 1 0 ∧ (i + 1) % T 1 0 < T 1 0 := fun i => ⟨Int.emod_nonneg _ (by omega), Int.emod_lt_of_pos _ np⟩
    have hC : zLoop (pb_X0_spiteAround_5 S c na o) zFuel (0, 0) = some (pFw (T 1) r (T 1 0) (T 1 0).toNat) := by
      refine pw_to (pw_lp (fun s => (0 ≤ s.2 ∧ s.2 ≤ T 1 0) ∧ s.1 = pFw (T 1) r (T 1 0) s.2.toNat) (fun s => (T 1 0 - s.2).toNat) ?_ ⟨by first | (dsimp only; omega) | omega, rfl⟩ (by first | (dsimp only; omega) | omega))
      rintro ⟨v, i⟩ ⟨⟨i0, i1⟩, hv⟩
      dsimp only at i0 i1 hv
      unfold pb_X0_spiteAround_5
      dsimp only
      refine pw_many ?_
      rw [hn]
      by_cases hi : i = T 1 0
      · refine pw_ite (fun _ => pw_inl ?_) (fun x => absurd x (by omega))
        rw [hv, hi]
      · have h1 := hr' i i0 (by omega)
        have h2 := hr' _ (hm i).1 (hm i).2
        have h3 := hs _ _ h1.1 (by omega) h2.1 (by omega : r ((i + 1) % T 1 0) < 6)
        have hmi := hm i
        have hf := hF i.toNat (by omega)
        refine pw_ite (fun x => absurd x (by omega)) (fun _ => ?_)
        refine pw_p32 (by omega) (by omega) (pw_ald (by omega) (by omega) ?_)
        rw [← hrr i]
        refine pw_idx (by omega) (by omega) (pw_many ?_)
        rw [hn]
        refine pw_p32 (by omega) (by omega) (pw_mod (by omega) np (pw_p32 (by omega) (by omega) (pw_ald (by omega) (by omega) ?_)))
        rw [← hrr ((i + 1) % T 1 0)]
        refine pw_ald (by omega) (by omega) ?_
        have e : S (9 + (r i).toNat) (r ((i + 1) % T 1 0)) = T 1 (35 + 6 * r i + r ((i + 1) % T 1 0)) := h3.1
        rw [e]
        refine pw_p32 (by omega) (by omega) (pw_p32 (by omega) (by omega) (pw_inr ⟨⟨by first | (dsimp only; omega) | omega, ?_⟩, by first | (dsimp only; omega) | omega⟩))
        dsimp only
        rw [pFw_s i0, hv]
    obtain ⟨m, hmd⟩ : ∃ m : Int, (2 < T 1 0 ∧ m = T 1 0) ∨ (T 1 0 ≤ 2 ∧ m = T 1 0 - 1) := by
      by_cases x : 2 < T 1 0
      · exact ⟨_, Or.inl ⟨x, rfl⟩⟩
      · exact ⟨_, Or.inr ⟨by omega, rfl⟩⟩
    have hM : zLoop (pb_X2_spiteOfRow_11 T (T 1 0)) zFuel (0, 0) = some (pFw (T 1) r (T 1 0) m.toNat) := by
      refine pw_to (pw_lp (fun s => (0 ≤ s.2 ∧ s.2 ≤ T 1 0) ∧ s.1 = pFw (T 1) r (T 1 0) (if s.2 ≤ m then s.2 else m).toNat) (fun s => (T 1 0 - s.2).toNat) ?_ ⟨by first | (dsimp only; omega) | omega, by dsimp only; rw [if_pos (by omega)]; rfl⟩ (by first | (dsimp only; omega) | omega))
      rintro ⟨v, i⟩ ⟨⟨i0, i1⟩, hv⟩
      dsimp only at i0 i1 hv
      unfold pb_X2_spiteOfRow_11
      dsimp only
      by_cases hi : i = T 1 0
      · refine pw_ite (fun _ => pw_inl ?_) (fun x => absurd x (by omega))
        have e : (if i ≤ m then i else m) = m := by
          by_cases x : i ≤ m
          · rw [if_pos x]; omega
          · rw [if_neg x]
        rw [hv, e]
      · refine pw_ite (fun x => absurd x (by omega)) (fun _ => ?_)
        by_cases him : i < m
        · have h1 := hr' i i0 (by omega)
          have h2 := hr' _ (hm i).1 (hm i).2
          have h3 := hA _ _ h1.1 (by omega) h2.1 (by omega : r ((i + 1) % T 1 0) < 6)
          have hmi := hm i
          have hf := hF i.toNat (by omega)
          rw [if_pos (by omega)] at hv
          have t1 := ht' i i0 (by omega)
          have t2 := ht' _ hmi.1 hmi.2
          have rest : pw ((pald T 10 6 i).bind fun v12 => p32 (i + 1) fun x2 => (pmod x2 (T 1 0)).bind fun v14 => (pald T 10 6 v14).bind fun v15 => p32 ((35 + (6 * v12)) + v15) fun x3 => (pald T 1 1450 x3).bind fun v16 => p32 (v + v16) fun v17 => p32 (i + 1) fun v18 => some (.inr (v17, v18))) (pSm (fun z => z = pFw (T 1) r (T 1 0) m.toNat) (fun t : Int × Int => ((0 ≤ t.2 ∧ t.2 ≤ T 1 0) ∧ t.1 = pFw (T 1) r (T 1 0) (if t.2 ≤ m then t.2 else m).toNat) ∧ (T 1 0 - t.2).toNat < (T 1 0 - i).toNat)) := by
            refine pw_ald (by omega) (by omega) (pw_p32 (by omega) (by omega) (pw_mod (by omega) np (pw_ald (by omega) (by omega) ?_)))
            rw [t1, t2]
            refine pw_p32 (by omega) (by omega) (pw_ald (by omega) (by omega) ?_)
            refine pw_p32 (by omega) (by omega) (pw_p32 (by omega) (by omega) (pw_inr ⟨⟨by first | (dsimp only; omega) | omega, ?_⟩, by first | (dsimp only; omega) | omega⟩))
            dsimp only
            rw [if_pos (by omega), pFw_s i0, hv]
          by_cases h2n : 2 < T 1 0
          · exact pw_exite (fun _ => pw_exr rest) (fun x => absurd h2n x)
          · refine pw_exite (fun x => absurd x h2n) (fun _ => pw_exp (by omega) (by omega) (pw_exite (fun x => absurd x (by omega)) (fun _ => pw_exr rest)))
        · refine pw_exite (fun x => absurd x (by omega)) (fun _ => pw_exp (by omega) (by omega) (pw_exite (fun _ => pw_exp (by omega) (by omega) (pw_exl ?_)) (fun x => absurd x (by omega))))
          refine ⟨⟨by first | (dsimp only; omega) | omega, ?_⟩, by first | (dsimp only; omega) | omega⟩
          dsimp only
          have e : (if i ≤ m then i else m) = m := by
            by_cases x : i ≤ m
            · rw [if_pos x]; omega
            · rw [if_neg x]
          rw [if_neg (by omega), hv, e]
    have hfn := hF (T 1 0).toNat (by omega)
    have hfm := hF m.toNat (by omega)
    have h2 : T 1 0 = 2 → pdv (pFw (T 1) r (T 1 0) (T 1 0).toNat) 2 = pFw (T 1) r (T 1 0) m.toNat := by
      intro e
      have em : m = 1 := by omega
      have r0 := hr' 0 (by omega) (by omega)
      have r1 := hr' 1 (by omega) (by omega)
      have sy := (hs (r 0) (r 1) r0.1 (by omega) r1.1 (by omega)).2.1
      rw [em, e]
      have e1 : pFw (T 1) r 2 (Int.toNat 1) = 0 + T 1 (35 + 6 * r 0 + r 1) := rfl
      have e2 : pFw (T 1) r 2 (Int.toNat 2) = 0 + T 1 (35 + 6 * r 0 + r 1) + T 1 (35 + 6 * r 1 + r 0) := rfl
      rw [e] at hfn
      have hfn' : 0 ≤ pFw (T 1) r 2 (Int.toNat 2) := hfn.1
      rw [pdv_n hfn', e1, e2]
      omega
    have h1 : T 1 0 = 1 → pFw (T 1) r (T 1 0) (T 1 0).toNat = pFw (T 1) r (T 1 0) m.toNat := by
      intro e
      have em : m = 0 := by omega
      have r0 := hr' 0 (by omega) (by omega)
      have sy := (hs (r 0) (r 0) r0.1 (by omega) r0.1 (by omega)).2.2.2.2 rfl
      rw [em, e]
      have e1 : pFw (T 1) r 1 (Int.toNat 1) = 0 + T 1 (35 + 6 * r 0 + r 0) := rfl
      have e2 : pFw (T 1) r 1 (Int.toNat 0) = 0 := rfl
      rw [e1, e2, sy]; rfl
    refine ⟨pFw (T 1) r (T 1 0) m.toNat, pw_to ?_, pw_to ?_, by omega, by omega⟩
    · unfold p_X0_spiteAround
      refine pw_beq hC (pw_many ?_)
      rw [hn]
      refine pw_ite (fun e => pw_zlt (pw_some (h2 e))) (fun e => pw_some ?_)
      by_cases e1 : T 1 0 = 1
      · exact h1 e1
      · rw [show m = T 1 0 by omega]
    · unfold p_X2_spiteOfRow
      repeat' (first | with_reducible refine pw_some ?_ | with_reducible refine pw_iteT ?_ | with_reducible refine pw_iteF ?_ | with_reducible refine pw_biteT ?_ | with_reducible refine pw_biteF ?_ | with_reducible refine pw_exiteT ?_ | with_reducible refine pw_exiteF ?_ | with_reducible refine pw_inr ?_ | with_reducible refine pw_inl ?_ | ((with_reducible refine pw_ite (fun _ => ?_) (fun _ => ?_)) <;> first | (exfalso; omega) | skip) | ((with_reducible refine pw_in (fun _ _ => ?_) (fun _ => ?_)) <;> first | (exfalso; omega) | skip) | ((with_reducible refine pw_isIn (fun _ _ => ?_) (fun _ => ?_)) <;> first | (exfalso; omega) | skip) | ((with_reducible refine pw_kin ?_ (fun _ _ => ?_) (fun _ => ?_)) ; (omega) <;> first | (exfalso; omega) | skip) | ((with_reducible refine pw_ckin ?_ (fun _ _ => ?_) (fun _ => ?_)); (omega) <;> first | (exfalso; omega) | skip) | ((with_reducible refine pw_many ?_); try simp (disch := omega) only [pup_x, pup_k, pup_c, pup_r]) | ((with_reducible refine pw_has0 ?_)) | ((with_reducible refine pw_has2 ?_)) | ((with_reducible refine pw_strapped ?_); try simp (disch := omega) only [pup_x, pup_k, pup_c, pup_r]) | ((with_reducible refine pw_ald ?_ ?_ ?_); omega; omega; try simp (disch := omega) only [pup_x, pup_k, pup_c, pup_r]) | ((with_reducible refine pw_ast ?_ ?_ ?_); omega; omega) | ((with_reducible refine pw_idx ?_ ?_ ?_); omega; omega) | ((with_reducible refine pw_cp ?_ ?_ ?_ ?_ ?_ ?_); omega; omega; omega; omega; omega) | ((with_reducible refine pw_p32 ?_ ?_ ?_); omega; omega) | ((with_reducible refine pw_p64 ?_ ?_ ?_); omega; omega) | ((with_reducible refine pw_zlt ?_); try simp (disch := omega) only [pup_x, pup_k, pup_c, pup_r]) | ((with_reducible refine pw_bo ?_ ?_); omega) | ((with_reducible refine pw_mod ?_ ?_ ?_); omega; omega) | ((with_reducible refine pw_div ?_ ?_ ?_); omega; omega) | ((with_reducible refine pw_bite (fun _ => ?_) (fun _ => ?_)) <;> first | (exfalso; omega) | skip) | ((with_reducible refine pw_bsome ?_)) | ((with_reducible refine pw_bzlt ?_)) | ((with_reducible refine pw_bp32 ?_ ?_ ?_); omega; omega) | ((with_reducible refine pw_bass ?_)) | ((with_reducible refine pw_bex ?_)) | ((with_reducible refine pw_exr ?_)) | ((with_reducible refine pw_exl ?_)) | ((with_reducible refine pw_exite (fun _ => ?_) (fun _ => ?_)) <;> first | (exfalso; omega) | skip) | ((with_reducible refine pw_exz ?_)) | ((with_reducible refine pw_exp ?_ ?_ ?_); omega; omega) | ((with_reducible refine pw_exb ?_)))
      exact pw_beq hM (pw_some rfl)
end
