/-! PURE, mixed -/
set_option maxRecDepth 100000
theorem pm_b {x y : Int} (x0 : -400 ≤ x) (x1 : x ≤ 400) (y0 : -400 ≤ y) (y1 : y ≤ 400) : -160000 ≤ x * y ∧ x * y ≤ 160000 := by
  have e : (x * y).natAbs = x.natAbs * y.natAbs := Int.natAbs_mul x y
  have : x.natAbs * y.natAbs ≤ 400 * 400 := Nat.mul_le_mul (by omega) (by omega)
  omega
theorem pm_s (x y : Int) : 0 < x * y ↔ (0 < x ∧ 0 < y) ∨ (x < 0 ∧ y < 0) := by
  constructor
  · intro h
    by_cases hx : 0 ≤ x
    · by_cases hy : 0 ≤ y
      · left
        refine ⟨?_, ?_⟩
        · by_cases e : x = 0
          · rw [e, Int.zero_mul] at h; omega
          · omega
        · by_cases e : y = 0
          · rw [e, Int.mul_zero] at h; omega
          · omega
      · have := Int.mul_nonneg hx (show 0 ≤ -y by omega)
        rw [Int.mul_neg] at this; omega
    · by_cases hy : y < 0
      · exact Or.inr ⟨by omega, hy⟩
      · have := Int.mul_nonneg (show 0 ≤ -x by omega) (show 0 ≤ y by omega)
        rw [Int.neg_mul] at this; omega
  · rintro (⟨a, b⟩ | ⟨a, b⟩)
    · exact Int.mul_pos a b
    · have := Int.mul_pos (show 0 < -x by omega) (show 0 < -y by omega)
      rw [Int.neg_mul_neg] at this; exact this
theorem gcd_s (a b : Nat) : Nat.gcd b (a % b) = Nat.gcd a b := by
  rw [Nat.gcd_comm b, ← Nat.gcd_rec, Nat.gcd_comm]
theorem rp_c0 (d : Nat) (a : Int) : rp_common (d + 1) a ((0 : Nat) : Int) = some a := by
  show qp_X0_common (rp_common d) a 0 = some a
  unfold qp_X0_common
  rw [if_pos rfl]
theorem k_rc : ∀ (k d a b : Nat), 2 * k + 1 ≤ d → b < 2 ^ k → rp_common d (a : Int) (b : Int) = some ((Nat.gcd a b : Nat) : Int)
  | 0, 0, _, _, h, _ => absurd h (by omega)
  | 0, d + 1, a, b, _, hb => by
    have hb0 : b = 0 := by rw [Nat.pow_zero] at hb; omega
    subst hb0
    rw [Nat.gcd_zero_right]
    exact rp_c0 _ _
  | k + 1, 0, _, _, h, _ => absurd h (by omega)
  | k + 1, 1, _, _, h, _ => absurd h (by omega)
  | k + 1, d + 2, a, b, h, hb => by
    by_cases hb0 : b = 0
    · subst hb0
      rw [Nat.gcd_zero_right]
      exact rp_c0 _ _
    · refine pw_to ?_
      show pw (qp_X0_common (rp_common (d + 1)) (a : Int) (b : Int)) _
      unfold qp_X0_common
      refine pw_ite (fun x => absurd x (by omega)) (fun _ => pw_jmod (by omega) (by omega) ?_)
      rw [show ((a : Int) % (b : Int)) = ((a % b : Nat) : Int) from (Int.natCast_emod a b).symm]
      have hr : rp_common (d + 1) (b : Int) ((a % b : Nat) : Int) = some ((Nat.gcd a b : Nat) : Int) := by
        have hlt : a % b < b := Nat.mod_lt _ (by omega)
        by_cases hr0 : a % b = 0
        · rw [← gcd_s a b, hr0, Nat.gcd_zero_right]
          exact rp_c0 _ _
        · refine pw_to ?_
          show pw (qp_X0_common (rp_common d) (b : Int) ((a % b : Nat) : Int)) _
          unfold qp_X0_common
          refine pw_ite (fun x => absurd x (by omega)) (fun _ => pw_jmod (by omega) (by omega) ?_)
          rw [show ((b : Int) % ((a % b : Nat) : Int)) = ((b % (a % b) : Nat) : Int) from (Int.natCast_emod b (a % b)).symm]
          have h2 : b % (a % b) < 2 ^ k := by
            have h3 : b % (a % b) < a % b := Nat.mod_lt _ (by omega)
            have h4 : b % (a % b) ≤ b - a % b := by
              rw [Nat.mod_eq_sub_mod (by omega)]
              exact Nat.mod_le _ _
            rw [Nat.pow_succ] at hb
            omega
          refine pw_beq (k_rc k d (a % b) (b % (a % b)) (by omega) h2) ?_
          refine pw_some ?_
          rw [gcd_s b (a % b), gcd_s a b]
      exact pw_beq hr (pw_some rfl)
theorem k_common {a b : Int} (a0 : 0 ≤ a) (b0 : 0 ≤ b) (b1 : b ≤ 500) : p_X0_common a b = some ((Nat.gcd a.toNat b.toNat : Nat) : Int) := by
  have := k_rc 9 120 a.toNat b.toNat (by omega) (by have : (2 : Nat) ^ 9 = 512 := by decide
                                                    omega)
  rw [Int.toNat_of_nonneg a0, Int.toNat_of_nonneg b0] at this
  exact this
set_option maxHeartbeats 400000 in
theorem k_divisor {a b : Int} (ha : -500 ≤ a ∧ a ≤ 500) (hb : -500 ≤ b ∧ b ≤ 500) : p_X2_divisor a b = some ((Nat.gcd a.natAbs b.natAbs : Nat) : Int) := by
  refine pw_to ?_
  unfold p_X2_divisor
  refine pw_bind (fun v => v.natAbs = Nat.gcd a.natAbs b.natAbs ∧ -500 ≤ v ∧ v ≤ 500) ?_ (fun v hv => ?_)
  · refine pw_lp (fun s => Nat.gcd s.1.natAbs s.2.natAbs = Nat.gcd a.natAbs b.natAbs ∧ (-500 ≤ s.1 ∧ s.1 ≤ 500) ∧ -500 ≤ s.2 ∧ s.2 ≤ 500) (fun s => s.2.natAbs) ?_ ⟨rfl, ha, hb⟩ (by dsimp only; omega)
    rintro ⟨x, y⟩ ⟨hg, hx, hy⟩
    dsimp only at hg hx hy
    unfold pb_X2_divisor_4
    by_cases h0 : y = 0
    · subst h0
      refine pw_ite (fun _ => pw_inl ⟨?_, hx⟩) (fun x => absurd rfl x)
      rw [← hg]; exact (Nat.gcd_zero_right _).symm
    · refine pw_ite (fun x => absurd x h0) (fun _ => ?_)
      have hm : pmod x y = some (Int.tmod x y) := by
        unfold pmod
        exact if_neg (by omega)
      refine pw_beq hm (pw_inr ?_)
      have e : (Int.tmod x y).natAbs = x.natAbs % y.natAbs := Int.natAbs_tmod x y
      have hl : x.natAbs % y.natAbs < y.natAbs := Nat.mod_lt _ (by omega)
      refine ⟨⟨?_, hy, ?_⟩, ?_⟩
      · dsimp only
        rw [e, gcd_s]; exact hg
      · dsimp only
        omega
      · dsimp only
        omega
  · refine pw_ite (fun _ => pw_some (by omega)) (fun _ => pw_p32 (by omega) (by omega) (pw_some (by omega)))
section
variable {W : pW} {S T : zP}
def pU (T : zP) (w : Int) : Int := if w = 0 then T 1 129 - T 1 125 else T 1 128 - T 1 126
def pL (T : zP) (w : Int) : Int := pU T w + (if w = 0 then T 1 127 - T 1 131 else T 1 130 - T 1 132)
def pGb (T : zP) : Prop := ∀ i, 125 ≤ i → i < 133 → -99 ≤ T 1 i ∧ T 1 i ≤ 99
theorem k_gainOf (a b w : Int) {i : Int} (hi : 125 + 4 * a + 2 * b + w = i) (i0 : 125 ≤ i) (i1 : i < 133) : p_X2_gainOf T a b w = some (T 1 i) := by
  refine pw_to ?_
  unfold p_X2_gainOf
  refine pw_p32 (by omega) (by omega) ?_
  rw [hi]
  repeat' (first | with_reducible refine pw_some ?_ | with_reducible refine pw_iteT ?_ | with_reducible refine pw_iteF ?_ | with_reducible refine pw_biteT ?_ | with_reducible refine pw_biteF ?_ | with_reducible refine pw_exiteT ?_ | with_reducible refine pw_exiteF ?_ | with_reducible refine pw_inr ?_ | with_reducible refine pw_inl ?_ | ((with_reducible refine pw_ite (fun _ => ?_) (fun _ => ?_)) <;> first | (exfalso; omega) | skip) | ((with_reducible refine pw_in (fun _ _ => ?_) (fun _ => ?_)) <;> first | (exfalso; omega) | skip) | ((with_reducible refine pw_isIn (fun _ _ => ?_) (fun _ => ?_)) <;> first | (exfalso; omega) | skip) | ((with_reducible refine pw_kin ?_ (fun _ _ => ?_) (fun _ => ?_)) ; (omega) <;> first | (exfalso; omega) | skip) | ((with_reducible refine pw_ckin ?_ (fun _ _ => ?_) (fun _ => ?_)); (omega) <;> first | (exfalso; omega) | skip) | ((with_reducible refine pw_many ?_); try simp (disch := omega) only [pup_x, pup_k, pup_c, pup_r]) | ((with_reducible refine pw_has0 ?_)) | ((with_reducible refine pw_has2 ?_)) | ((with_reducible refine pw_strapped ?_); try simp (disch := omega) only [pup_x, pup_k, pup_c, pup_r]) | ((with_reducible refine pw_ald ?_ ?_ ?_); omega; omega; try simp (disch := omega) only [pup_x, pup_k, pup_c, pup_r]) | ((with_reducible refine pw_ast ?_ ?_ ?_); omega; omega) | ((with_reducible refine pw_idx ?_ ?_ ?_); omega; omega) | ((with_reducible refine pw_cp ?_ ?_ ?_ ?_ ?_ ?_); omega; omega; omega; omega; omega) | ((with_reducible refine pw_p32 ?_ ?_ ?_); omega; omega) | ((with_reducible refine pw_p64 ?_ ?_ ?_); omega; omega) | ((with_reducible refine pw_zlt ?_); try simp (disch := omega) only [pup_x, pup_k, pup_c, pup_r]) | ((with_reducible refine pw_bo ?_ ?_); omega) | ((with_reducible refine pw_mod ?_ ?_ ?_); omega; omega) | ((with_reducible refine pw_div ?_ ?_ ?_); omega; omega) | ((with_reducible refine pw_bite (fun _ => ?_) (fun _ => ?_)) <;> first | (exfalso; omega) | skip) | ((with_reducible refine pw_bsome ?_)) | ((with_reducible refine pw_bzlt ?_)) | ((with_reducible refine pw_bp32 ?_ ?_ ?_); omega; omega) | ((with_reducible refine pw_bass ?_)) | ((with_reducible refine pw_bex ?_)) | ((with_reducible refine pw_exr ?_)) | ((with_reducible refine pw_exl ?_)) | ((with_reducible refine pw_exite (fun _ => ?_) (fun _ => ?_)) <;> first | (exfalso; omega) | skip) | ((with_reducible refine pw_exz ?_)) | ((with_reducible refine pw_exp ?_ ?_ ?_); omega; omega) | ((with_reducible refine pw_exb ?_)))
  rfl
theorem k_upOf (hg : pGb T) (w : Int) : p_X2_upOf T w = some (pU T w) ∧ -198 ≤ pU T w ∧ pU T w ≤ 198 := by
  have g1 := hg 129 (by omega) (by omega)
  have g2 := hg 125 (by omega) (by omega)
  have g3 := hg 128 (by omega) (by omega)
  have g4 := hg 126 (by omega) (by omega)
  unfold pU p_X2_upOf
  by_cases hw : w = 0
  · rw [if_pos hw, if_pos hw]
    refine ⟨pw_to (pw_beq (k_gainOf 1 0 0 (i := 129) (by omega) (by omega) (by omega)) (pw_beq (k_gainOf 0 0 0 (i := 125) (by omega) (by omega) (by omega)) (pw_p32 (by omega) (by omega) (pw_some rfl)))), by omega, by omega⟩
  · rw [if_neg hw, if_neg hw]
    refine ⟨pw_to (pw_beq (k_gainOf 0 1 1 (i := 128) (by omega) (by omega) (by omega)) (pw_beq (k_gainOf 0 0 1 (i := 126) (by omega) (by omega) (by omega)) (pw_p32 (by omega) (by omega) (pw_some rfl)))), by omega, by omega⟩
theorem k_lowOf (hg : pGb T) (w : Int) : p_X2_lowOf T w = some (pL T w) ∧ -396 ≤ pL T w ∧ pL T w ≤ 396 := by
  obtain ⟨u1, u2, u3⟩ := k_upOf hg w
  have g1 := hg 127 (by omega) (by omega)
  have g2 := hg 131 (by omega) (by omega)
  have g3 := hg 130 (by omega) (by omega)
  have g4 := hg 132 (by omega) (by omega)
  unfold pL p_X2_lowOf
  by_cases hw : w = 0
  · rw [if_pos hw]
    refine ⟨pw_to (pw_beq u1 (pw_ite (fun _ => pw_beq (k_gainOf 0 1 0 (i := 127) (by omega) (by omega) (by omega)) (pw_beq (k_gainOf 1 1 0 (i := 131) (by omega) (by omega) (by omega)) (pw_p32 (by omega) (by omega) (pw_some rfl)))) (fun x => absurd hw x))), by omega, by omega⟩
  · rw [if_neg hw]
    refine ⟨pw_to (pw_beq u1 (pw_ite (fun x => absurd x hw) (fun _ => pw_beq (k_gainOf 1 0 1 (i := 130) (by omega) (by omega) (by omega)) (pw_beq (k_gainOf 1 1 1 (i := 132) (by omega) (by omega) (by omega)) (pw_p32 (by omega) (by omega) (pw_some rfl)))))), by omega, by omega⟩
set_option maxHeartbeats 400000 in
theorem k_btw (hg : pGb T) (w : Int) : p_X2_isBetween T w = some (if (pL T w < pU T w ∧ pU T w < 0) ∨ (0 < pU T w ∧ pU T w < pL T w) then 1 else 0) := by
  obtain ⟨u1, u2, u3⟩ := k_upOf hg w
  obtain ⟨l1, l2, l3⟩ := k_lowOf hg w
  refine pw_to ?_
  unfold p_X2_isBetween
  refine pw_beq l1 ?_
  by_cases hl : pL T w ≤ 0
  · refine pw_ite (fun _ => ?_) (fun x => absurd hl x)
    refine pw_beq u1 (pw_beq l1 (pw_p32 (by omega) (by omega) ?_))
    repeat' (first | with_reducible refine pw_some ?_ | with_reducible refine pw_iteT ?_ | with_reducible refine pw_iteF ?_ | with_reducible refine pw_biteT ?_ | with_reducible refine pw_biteF ?_ | with_reducible refine pw_exiteT ?_ | with_reducible refine pw_exiteF ?_ | with_reducible refine pw_inr ?_ | with_reducible refine pw_inl ?_ | ((with_reducible refine pw_ite (fun _ => ?_) (fun _ => ?_)) <;> first | (exfalso; omega) | skip) | ((with_reducible refine pw_in (fun _ _ => ?_) (fun _ => ?_)) <;> first | (exfalso; omega) | skip) | ((with_reducible refine pw_isIn (fun _ _ => ?_) (fun _ => ?_)) <;> first | (exfalso; omega) | skip) | ((with_reducible refine pw_kin ?_ (fun _ _ => ?_) (fun _ => ?_)) ; (omega) <;> first | (exfalso; omega) | skip) | ((with_reducible refine pw_ckin ?_ (fun _ _ => ?_) (fun _ => ?_)); (omega) <;> first | (exfalso; omega) | skip) | ((with_reducible refine pw_many ?_); try simp (disch := omega) only [pup_x, pup_k, pup_c, pup_r]) | ((with_reducible refine pw_has0 ?_)) | ((with_reducible refine pw_has2 ?_)) | ((with_reducible refine pw_strapped ?_); try simp (disch := omega) only [pup_x, pup_k, pup_c, pup_r]) | ((with_reducible refine pw_ald ?_ ?_ ?_); omega; omega; try simp (disch := omega) only [pup_x, pup_k, pup_c, pup_r]) | ((with_reducible refine pw_ast ?_ ?_ ?_); omega; omega) | ((with_reducible refine pw_idx ?_ ?_ ?_); omega; omega) | ((with_reducible refine pw_cp ?_ ?_ ?_ ?_ ?_ ?_); omega; omega; omega; omega; omega) | ((with_reducible refine pw_p32 ?_ ?_ ?_); omega; omega) | ((with_reducible refine pw_p64 ?_ ?_ ?_); omega; omega) | ((with_reducible refine pw_zlt ?_); try simp (disch := omega) only [pup_x, pup_k, pup_c, pup_r]) | ((with_reducible refine pw_bo ?_ ?_); omega) | ((with_reducible refine pw_mod ?_ ?_ ?_); omega; omega) | ((with_reducible refine pw_div ?_ ?_ ?_); omega; omega) | ((with_reducible refine pw_bite (fun _ => ?_) (fun _ => ?_)) <;> first | (exfalso; omega) | skip) | ((with_reducible refine pw_bsome ?_)) | ((with_reducible refine pw_bzlt ?_)) | ((with_reducible refine pw_bp32 ?_ ?_ ?_); omega; omega) | ((with_reducible refine pw_bass ?_)) | ((with_reducible refine pw_bex ?_)) | ((with_reducible refine pw_exr ?_)) | ((with_reducible refine pw_exl ?_)) | ((with_reducible refine pw_exite (fun _ => ?_) (fun _ => ?_)) <;> first | (exfalso; omega) | skip) | ((with_reducible refine pw_exz ?_)) | ((with_reducible refine pw_exp ?_ ?_ ?_); omega; omega) | ((with_reducible refine pw_exb ?_)))
    · rw [if_pos (by omega)]
    · rw [if_neg (by omega)]
  · refine pw_ite (fun x => absurd x hl) (fun _ => ?_)
    refine pw_beq u1 (pw_beq l1 (pw_p32 (by omega) (by omega) ?_))
    repeat' (first | with_reducible refine pw_some ?_ | with_reducible refine pw_iteT ?_ | with_reducible refine pw_iteF ?_ | with_reducible refine pw_biteT ?_ | with_reducible refine pw_biteF ?_ | with_reducible refine pw_exiteT ?_ | with_reducible refine pw_exiteF ?_ | with_reducible refine pw_inr ?_ | with_reducible refine pw_inl ?_ | ((with_reducible refine pw_ite (fun _ => ?_) (fun _ => ?_)) <;> first | (exfalso; omega) | skip) | ((with_reducible refine pw_in (fun _ _ => ?_) (fun _ => ?_)) <;> first | (exfalso; omega) | skip) | ((with_reducible refine pw_isIn (fun _ _ => ?_) (fun _ => ?_)) <;> first | (exfalso; omega) | skip) | ((with_reducible refine pw_kin ?_ (fun _ _ => ?_) (fun _ => ?_)) ; (omega) <;> first | (exfalso; omega) | skip) | ((with_reducible refine pw_ckin ?_ (fun _ _ => ?_) (fun _ => ?_)); (omega) <;> first | (exfalso; omega) | skip) | ((with_reducible refine pw_many ?_); try simp (disch := omega) only [pup_x, pup_k, pup_c, pup_r]) | ((with_reducible refine pw_has0 ?_)) | ((with_reducible refine pw_has2 ?_)) | ((with_reducible refine pw_strapped ?_); try simp (disch := omega) only [pup_x, pup_k, pup_c, pup_r]) | ((with_reducible refine pw_ald ?_ ?_ ?_); omega; omega; try simp (disch := omega) only [pup_x, pup_k, pup_c, pup_r]) | ((with_reducible refine pw_ast ?_ ?_ ?_); omega; omega) | ((with_reducible refine pw_idx ?_ ?_ ?_); omega; omega) | ((with_reducible refine pw_cp ?_ ?_ ?_ ?_ ?_ ?_); omega; omega; omega; omega; omega) | ((with_reducible refine pw_p32 ?_ ?_ ?_); omega; omega) | ((with_reducible refine pw_p64 ?_ ?_ ?_); omega; omega) | ((with_reducible refine pw_zlt ?_); try simp (disch := omega) only [pup_x, pup_k, pup_c, pup_r]) | ((with_reducible refine pw_bo ?_ ?_); omega) | ((with_reducible refine pw_mod ?_ ?_ ?_); omega; omega) | ((with_reducible refine pw_div ?_ ?_ ?_); omega; omega) | ((with_reducible refine pw_bite (fun _ => ?_) (fun _ => ?_)) <;> first | (exfalso; omega) | skip) | ((with_reducible refine pw_bsome ?_)) | ((with_reducible refine pw_bzlt ?_)) | ((with_reducible refine pw_bp32 ?_ ?_ ?_); omega; omega) | ((with_reducible refine pw_bass ?_)) | ((with_reducible refine pw_bex ?_)) | ((with_reducible refine pw_exr ?_)) | ((with_reducible refine pw_exl ?_)) | ((with_reducible refine pw_exite (fun _ => ?_) (fun _ => ?_)) <;> first | (exfalso; omega) | skip) | ((with_reducible refine pw_exz ?_)) | ((with_reducible refine pw_exp ?_ ?_ ?_); omega; omega) | ((with_reducible refine pw_exb ?_)))
    · rw [if_pos (by omega)]
    · rw [if_neg (by omega)]
theorem k_abs {x : Int} (h0 : -400 ≤ x) (h1 : x ≤ 400) : p_J7_abs x = some (x.natAbs : Int) := by
  refine pw_to ?_
  unfold p_J7_abs
  refine pw_ite (fun _ => pw_some (by omega)) (fun _ => pw_p32 (by omega) (by omega) (pw_some (by omega)))
set_option maxHeartbeats 2000000 in
theorem q_mixed (h : pRel W S T) (a b : Int) : pw (p_X0_mixed S a b) (fun z => pw (p_X2_mixed T a b) (fun t => z = t)) := by
  have hg := h.1.2.2.2.2.2.2.2.2.1
  have g0 := hg 0 (by omega) (by omega)
  have g1 := hg 1 (by omega) (by omega)
  have g2 := hg 2 (by omega) (by omega)
  have g3 := hg 3 (by omega) (by omega)
  simp only [Int.reduceMul, Int.reduceAdd] at g0 g1 g2 g3
  have hgb : pGb T := by
    intro i i0 i1
    have : i = 125 ∨ i = 126 ∨ i = 127 ∨ i = 128 ∨ i = 129 ∨ i = 130 ∨ i = 131 ∨ i = 132 := by omega
    rcases this with rfl | rfl | rfl | rfl | rfl | rfl | rfl | rfl <;> omega
  have b1 := k_btw hgb 1
  have b0 := k_btw hgb 0
  have ua := k_upOf hgb a
  have la := k_lowOf hgb a
  have u1 : pU T 1 = T 1 128 - T 1 126 := if_neg (by omega)
  have u0 : pU T 0 = T 1 129 - T 1 125 := if_pos rfl
  have l1 : pL T 1 = T 1 128 - T 1 126 + (T 1 130 - T 1 132) := by unfold pL; rw [u1, if_neg (by omega)]
  have l0 : pL T 0 = T 1 129 - T 1 125 + (T 1 127 - T 1 131) := by unfold pL; rw [u0, if_pos rfl]
  obtain ⟨p, hp⟩ : ∃ p, p = S 7 0 - S 7 1 := ⟨_, rfl⟩
  obtain ⟨q, hq⟩ : ∃ q, q = S 7 3 - S 7 2 := ⟨_, rfl⟩
  obtain ⟨r, hr⟩ : ∃ r, r = S 6 0 - S 6 2 := ⟨_, rfl⟩
  obtain ⟨s, hs⟩ : ∃ s, s = S 6 3 - S 6 1 := ⟨_, rfl⟩
  have p1 : p = - pU T 1 := by omega
  have q1 : p + q = - pL T 1 := by omega
  have r1 : r = - pU T 0 := by omega
  have s1 : r + s = - pL T 0 := by omega
  have bp := pm_b (x := p) (y := q) (by omega) (by omega) (by omega) (by omega)
  have br := pm_b (x := r) (y := s) (by omega) (by omega) (by omega) (by omega)
  have sp := pm_s p q
  have sr := pm_s r s
  have pr : (-198 ≤ p ∧ p ≤ 198) ∧ (-198 ≤ q ∧ q ≤ 198) ∧ (-198 ≤ r ∧ r ≤ 198) ∧ -198 ≤ s ∧ s ≤ 198 := by omega
  unfold p_X0_mixed p_X2_mixed
  refine pw_ald (by omega) (by omega) (pw_ald (by omega) (by omega) (pw_p32 (by omega) (by omega) ?_))
  rw [← hp]
  refine pw_ald (by omega) (by omega) (pw_ald (by omega) (by omega) (pw_p32 (by omega) (by omega) ?_))
  rw [← hq]
  refine pw_ald (by omega) (by omega) (pw_ald (by omega) (by omega) (pw_p32 (by omega) (by omega) ?_))
  rw [← hr]
  refine pw_ald (by omega) (by omega) (pw_ald (by omega) (by omega) (pw_p32 (by omega) (by omega) ?_))
  rw [← hs]
  refine pw_p32 (by omega) (by omega) ?_
  obtain ⟨pq, hpq⟩ : ∃ m, m = p * q := ⟨_, rfl⟩
  obtain ⟨rs, hrs⟩ : ∃ m, m = r * s := ⟨_, rfl⟩
  rw [← hpq] at bp sp
  rw [← hrs] at br sr
  rw [← hpq, ← hrs]
  clear hp hq hr hs hpq hrs hg g0 g1 g2 g3 hgb
  by_cases c1 : pq ≤ 0
  · rw [if_neg (by omega)] at b1
    refine pw_ite (fun _ => pw_some ?_) (fun x => absurd c1 x)
    refine pw_beq b1 ?_
    exact pw_ite (fun _ => pw_some rfl) (fun x => absurd rfl x)
  · rw [if_pos (by omega)] at b1
    refine pw_ite (fun x => absurd x c1) (fun _ => pw_p32 (by omega) (by omega) ?_)
    by_cases c0 : 0 < rs
    · rw [if_pos (by omega)] at b0
      refine pw_ite (fun _ => ?_) (fun x => absurd c0 x)
      obtain ⟨x, y, ex, ey, xu, yl, xy⟩ : ∃ x y : Int, (if a = 0 then some r else some p : Option Int) = some x ∧ (if a = 0 then some s else some q : Option Int) = some y ∧ x = - pU T a ∧ x + y = - pL T a ∧ ((0 < x ∧ 0 < y) ∨ (x < 0 ∧ y < 0)) ∧ (-198 ≤ x ∧ x ≤ 198) ∧ -198 ≤ y ∧ y ≤ 198 := by
        by_cases ha : a = 0
        · subst ha
          exact ⟨r, s, if_pos rfl, if_pos rfl, r1, s1, by omega, by omega, by omega⟩
        · have e1 : pU T a = pU T 1 := by unfold pU; rw [if_neg ha, if_neg (by omega)]
          have e2 : pL T a = pL T 1 := by unfold pL; rw [e1, if_neg ha, if_neg (by omega)]
          exact ⟨p, q, if_neg ha, if_neg ha, by omega, by omega, by omega, by omega, by omega⟩
      clear sp sr bp br p1 q1 r1 s1 u1 u0 l1 l0 pr c1 c0
      have ax := k_abs (x := x) (by omega) (by omega)
      have ay := k_abs (x := y) (by omega) (by omega)
      have hL : (x.natAbs : Int) + (y.natAbs : Int) = ((pL T a).natAbs : Int) := by omega
      have hU : (x.natAbs : Int) = ((pU T a).natAbs : Int) := by omega
      have hU0 : 0 < (pU T a).natAbs := by omega
      have hc := k_common (a := ((pL T a).natAbs : Int)) (b := ((pU T a).natAbs : Int)) (by omega) (by omega) (by omega)
      rw [Int.toNat_natCast, Int.toNat_natCast] at hc
      have hd := k_divisor (a := pU T a) (b := pL T a) (by omega) (by omega)
      rw [Nat.gcd_comm] at hd
      have hgp : 0 < Nat.gcd (pL T a).natAbs (pU T a).natAbs := Nat.gcd_pos_of_pos_right _ hU0
      obtain ⟨g, eg⟩ : ∃ g : Nat, g = Nat.gcd (pL T a).natAbs (pU T a).natAbs := ⟨_, rfl⟩
      rw [← eg] at hc hd hgp
      obtain ⟨w, e3, e4, w0, w1⟩ : ∃ w : Int, (if b = 0 then some ((pU T a).natAbs : Int) else some ((pL T a).natAbs : Int) : Option Int) = some w ∧ (((if b = 0 then ((p_X2_upOf T a).bind fun v5 => some (v5)) else ((p_X2_lowOf T a).bind fun v6 => some (v6)) : Option Int)).bind fun v4 => ((if 0 ≤ v4 then (some (v4)) else (p32 (-v4) fun x1 => some (x1)) : Option Int))) = some w ∧ 0 ≤ w ∧ w ≤ 500 := by
        by_cases hb : b = 0
        · refine ⟨_, if_pos hb, ?_, by omega, by omega⟩
          rw [if_pos hb, ua.1]
          refine pw_to ?_
          show pw (if 0 ≤ pU T a then _ else _) _
          exact pw_ite (fun _ => pw_some (by omega)) (fun _ => pw_p32 (by omega) (by omega) (pw_some (by omega)))
        · refine ⟨_, if_neg hb, ?_, by omega, by omega⟩
          rw [if_neg hb, la.1]
          refine pw_to ?_
          show pw (if 0 ≤ pL T a then _ else _) _
          exact pw_ite (fun _ => pw_some (by omega)) (fun _ => pw_p32 (by omega) (by omega) (pw_some (by omega)))
      have wd : 0 ≤ w / (g : Int) ∧ w / (g : Int) ≤ w := ⟨Int.ediv_nonneg w0 (by omega), Int.ediv_le_self _ w0⟩
      have hpart : p_X0_part ((pU T a).natAbs : Int) ((pL T a).natAbs : Int) b = some (w / (g : Int)) := by
        refine pw_to ?_
        unfold p_X0_part
        refine pw_beq e3 (pw_beq hc (pw_jdiv w0 (by omega) (pw_some rfl)))
      have hdiv : pdiv w (g : Int) = some (w / (g : Int)) := by
        refine pw_to ?_
        have := pw_div (x := w) (y := (g : Int)) (K := fun v => some v) (Q := fun z => z = w / (g : Int)) w0 (by omega) (pw_some rfl)
        cases hh : pdiv w (g : Int) with
        | none => rw [hh] at this; obtain ⟨_, e, _⟩ := this; exact absurd e (by simp)
        | some v => rw [hh] at this; exact this
      refine pw_beq ex (pw_beq ax (pw_beq ey (pw_beq ay (pw_p32 (by omega) (by omega) ?_))))
      rw [hL, hU]
      refine pw_beq hpart (pw_p32 (by omega) (by omega) (pw_some ?_))
      refine pw_beq b1 ?_
      refine pw_ite (fun x => absurd x (by omega)) (fun _ => pw_beq b0 ?_)
      refine pw_ite (fun x => absurd x (by omega)) (fun _ => ?_)
      obtain ⟨v4, f1, f2⟩ : ∃ v4, (if b = 0 then ((p_X2_upOf T a).bind fun v5 => some (v5)) else ((p_X2_lowOf T a).bind fun v6 => some (v6)) : Option Int) = some v4 ∧ (if 0 ≤ v4 then (some (v4)) else (p32 (-v4) fun x1 => some (x1)) : Option Int) = some w := by
        cases hh : (if b = 0 then ((p_X2_upOf T a).bind fun v5 => some (v5)) else ((p_X2_lowOf T a).bind fun v6 => some (v6)) : Option Int) with
        | none => rw [hh] at e4; exact absurd e4 (by simp)
        | some v => rw [hh] at e4; exact ⟨v, rfl, e4⟩
      refine pw_beq f1 (pw_beq f2 (pw_beq ua.1 (pw_beq la.1 (pw_beq hd (pw_beq hdiv (pw_some rfl))))))
    · rw [if_neg (by omega)] at b0
      refine pw_ite (fun x => absurd x c0) (fun _ => pw_some ?_)
      refine pw_beq b1 ?_
      refine pw_ite (fun x => absurd x (by omega)) (fun _ => pw_beq b0 ?_)
      exact pw_ite (fun _ => pw_some rfl) (fun x => absurd rfl x)
end
