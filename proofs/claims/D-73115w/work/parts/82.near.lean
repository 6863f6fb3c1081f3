/-! PURE, near -/
set_option maxRecDepth 100000
theorem k_lz0 (n : Nat) (a : Int) : zLoop pb_X2_longDivisor_6 (n + 1) (a, ((0 : Nat) : Int)) = some a := by
  refine pw_to ?_
  rw [zLoop_s]
  unfold pb_X2_longDivisor_6
  refine pw_exite (fun _ => ?_) (fun x => absurd rfl x)
  exact pw_exl rfl
theorem k_lzs (n : Nat) (a b : Nat) (hb : b ≠ 0) {r : Int} (h : zLoop pb_X2_longDivisor_6 n ((b : Int), ((a % b : Nat) : Int)) = some r) : zLoop pb_X2_longDivisor_6 (n + 1) ((a : Int), (b : Int)) = some r := by
  refine pw_to ?_
  have e : pb_X2_longDivisor_6 ((a : Int), (b : Int)) = some (.inr ((b : Int), ((a % b : Nat) : Int))) := by
    refine pw_to ?_
    unfold pb_X2_longDivisor_6
    refine pw_ite (fun x => absurd x (by omega)) (fun _ => pw_jmod (by omega) (by omega) ?_)
    rw [show ((a : Int) % (b : Int)) = ((a % b : Nat) : Int) from (Int.natCast_emod a b).symm]
    exact pw_some rfl
  rw [zLoop_s, e]
  exact pw_exr ⟨_, h, rfl⟩
theorem k_lz : ∀ (k n a b : Nat), 2 * k + 1 ≤ n → b < 2 ^ k → zLoop pb_X2_longDivisor_6 n ((a : Int), (b : Int)) = some ((Nat.gcd a b : Nat) : Int)
  | 0, 0, _, _, h, _ => absurd h (by omega)
  | 0, n + 1, a, b, _, hb => by
    have hb0 : b = 0 := by rw [Nat.pow_zero] at hb; omega
    subst hb0
    rw [Nat.gcd_zero_right]
    exact k_lz0 _ _
  | k + 1, 0, _, _, h, _ => absurd h (by omega)
  | k + 1, 1, _, _, h, _ => absurd h (by omega)
  | k + 1, n + 2, a, b, h, hb => by
    by_cases hb0 : b = 0
    · subst hb0
      rw [Nat.gcd_zero_right]
      exact k_lz0 _ _
    · refine k_lzs _ _ _ hb0 ?_
      have hlt : a % b < b := Nat.mod_lt _ (by omega)
      by_cases hr0 : a % b = 0
      · rw [← gcd_s a b, hr0, Nat.gcd_zero_right]
        exact k_lz0 _ _
      · refine k_lzs _ _ _ hr0 ?_
        have h2 : b % (a % b) < 2 ^ k := by
          have h3 : b % (a % b) < a % b := Nat.mod_lt _ (by omega)
          have h4 : b % (a % b) ≤ b - a % b := by
            rw [Nat.mod_eq_sub_mod (by omega)]
            exact Nat.mod_le _ _
          rw [Nat.pow_succ] at hb
          omega
        rw [← gcd_s a b, ← gcd_s b (a % b)]
        exact k_lz k n (a % b) (b % (a % b)) (by omega) h2
/-! the ways at one place: both, one by one -/
theorem nine_b {w x : Int} {k : Nat} (w0 : 0 < w) (w1 : w ≤ 9 ^ k) (x0 : 1 ≤ x) (x1 : x ≤ 9) : 0 < w * x ∧ w * x ≤ 9 ^ (k + 1) := by
  refine ⟨Int.mul_pos w0 (by omega), ?_⟩
  rw [Int.pow_succ]
  exact Int.mul_le_mul w1 x1 (by omega) (by omega)
theorem nine_12 {k : Nat} (h : k ≤ 11) : (9 : Int) ^ k ≤ 31381059609 := by
  have : ∀ k : Fin 12, (9 : Int) ^ k.val ≤ 31381059609 := by decide
  exact this ⟨k, by omega⟩
set_option maxHeartbeats 400000 in
theorem k_way {a n i : Int} (a0 : 1 ≤ a) (a1 : a ≤ 9) (n0 : 1 ≤ n) (n1 : n ≤ 12) : ∃ P, zLoop (pb_X0_near_54 a n i) zFuel (1, 1) = some P ∧ zLoop (pb_X2_waysOf_17 a n i) zFuel (1, 0) = some P ∧ 0 < P ∧ P ≤ 31381059609 := by
  obtain ⟨x, ex, y, ey, rfl, x0, x1⟩ : pw (zLoop (pb_X0_near_54 a n i) zFuel (1, 1)) (fun x => pw (zLoop (pb_X2_waysOf_17 a n i) zFuel (1, 0)) (fun y => x = y ∧ 0 < x ∧ x ≤ 31381059609)) := by
    refine pw2_lp (fun x y => x.1 = y.1 ∧ x.2 = y.2 + 1 ∧ (0 ≤ y.2 ∧ y.2 ≤ n - 1) ∧ 0 < y.1 ∧ y.1 ≤ 9 ^ y.2.toNat) (fun x => (n - x.2).toNat) ?_ ⟨rfl, rfl, by first | (dsimp only; omega) | omega, by decide, by decide⟩ (by first | (dsimp only; omega) | omega)
    rintro ⟨w, j⟩ ⟨w', k⟩ ⟨e, e', ⟨k0, k1⟩, w0, w1⟩
    dsimp only at e e' k0 k1 w0 w1
    subst e
    subst e'
    have h12 := nine_12 (k := k.toNat) (by omega)
    have hk1 : (k + 1).toNat = k.toNat + 1 := by omega
    unfold pb_X0_near_54 pb_X2_waysOf_17
    dsimp only
    by_cases hk : k = n - 1
    · repeat' (first | with_reducible refine pw_some ?_ | with_reducible refine pw_iteT ?_ | with_reducible refine pw_iteF ?_ | with_reducible refine pw_biteT ?_ | with_reducible refine pw_biteF ?_ | with_reducible refine pw_exiteT ?_ | with_reducible refine pw_exiteF ?_ | with_reducible refine pw_inr ?_ | with_reducible refine pw_inl ?_ | ((with_reducible refine pw_ite (fun _ => ?_) (fun _ => ?_)) <;> first | (exfalso; omega) | skip) | ((with_reducible refine pw_in (fun _ _ => ?_) (fun _ => ?_)) <;> first | (exfalso; omega) | skip) | ((with_reducible refine pw_isIn (fun _ _ => ?_) (fun _ => ?_)) <;> first | (exfalso; omega) | skip) | ((with_reducible refine pw_kin ?_ (fun _ _ => ?_) (fun _ => ?_)) ; (omega) <;> first | (exfalso; omega) | skip) | ((with_reducible refine pw_ckin ?_ (fun _ _ => ?_) (fun _ => ?_)); (omega) <;> first | (exfalso; omega) | skip) | ((with_reducible refine pw_many ?_); try simp (disch := omega) only [pup_x, pup_k, pup_c, pup_r]) | ((with_reducible refine pw_has0 ?_)) | ((with_reducible refine pw_has2 ?_)) | ((with_reducible refine pw_strapped ?_); try simp (disch := omega) only [pup_x, pup_k, pup_c, pup_r]) | ((with_reducible refine pw_ald ?_ ?_ ?_); omega; omega; try simp (disch := omega) only [pup_x, pup_k, pup_c, pup_r]) | ((with_reducible refine pw_ast ?_ ?_ ?_); omega; omega) | ((with_reducible refine pw_idx ?_ ?_ ?_); omega; omega) | ((with_reducible refine pw_cp ?_ ?_ ?_ ?_ ?_ ?_); omega; omega; omega; omega; omega) | ((with_reducible refine pw_p32 ?_ ?_ ?_); omega; omega) | ((with_reducible refine pw_p64 ?_ ?_ ?_); omega; omega) | ((with_reducible refine pw_zlt ?_); try simp (disch := omega) only [pup_x, pup_k, pup_c, pup_r]) | ((with_reducible refine pw_bo ?_ ?_); omega) | ((with_reducible refine pw_mod ?_ ?_ ?_); omega; omega) | ((with_reducible refine pw_div ?_ ?_ ?_); omega; omega) | ((with_reducible refine pw_bite (fun _ => ?_) (fun _ => ?_)) <;> first | (exfalso; omega) | skip) | ((with_reducible refine pw_bsome ?_)) | ((with_reducible refine pw_bzlt ?_)) | ((with_reducible refine pw_bp32 ?_ ?_ ?_); omega; omega) | ((with_reducible refine pw_bass ?_)) | ((with_reducible refine pw_bex ?_)) | ((with_reducible refine pw_exr ?_)) | ((with_reducible refine pw_exl ?_)) | ((with_reducible refine pw_exite (fun _ => ?_) (fun _ => ?_)) <;> first | (exfalso; omega) | skip) | ((with_reducible refine pw_exz ?_)) | ((with_reducible refine pw_exp ?_ ?_ ?_); omega; omega) | ((with_reducible refine pw_exb ?_)))
      try dsimp only [pS2]
      exact ⟨rfl, w0, by omega⟩
    · have g12 := nine_12 (k := k.toNat + 1) (by omega)
      have ga := nine_b w0 w1 a0 a1
      have gb := nine_b w0 w1 (x := 10 - a) (by omega) (by omega)
      by_cases hi : i ≤ k
      · repeat' (first | with_reducible refine pw_some ?_ | with_reducible refine pw_iteT ?_ | with_reducible refine pw_iteF ?_ | with_reducible refine pw_biteT ?_ | with_reducible refine pw_biteF ?_ | with_reducible refine pw_exiteT ?_ | with_reducible refine pw_exiteF ?_ | with_reducible refine pw_inr ?_ | with_reducible refine pw_inl ?_ | ((with_reducible refine pw_ite (fun _ => ?_) (fun _ => ?_)) <;> first | (exfalso; omega) | skip) | ((with_reducible refine pw_in (fun _ _ => ?_) (fun _ => ?_)) <;> first | (exfalso; omega) | skip) | ((with_reducible refine pw_isIn (fun _ _ => ?_) (fun _ => ?_)) <;> first | (exfalso; omega) | skip) | ((with_reducible refine pw_kin ?_ (fun _ _ => ?_) (fun _ => ?_)) ; (omega) <;> first | (exfalso; omega) | skip) | ((with_reducible refine pw_ckin ?_ (fun _ _ => ?_) (fun _ => ?_)); (omega) <;> first | (exfalso; omega) | skip) | ((with_reducible refine pw_many ?_); try simp (disch := omega) only [pup_x, pup_k, pup_c, pup_r]) | ((with_reducible refine pw_has0 ?_)) | ((with_reducible refine pw_has2 ?_)) | ((with_reducible refine pw_strapped ?_); try simp (disch := omega) only [pup_x, pup_k, pup_c, pup_r]) | ((with_reducible refine pw_ald ?_ ?_ ?_); omega; omega; try simp (disch := omega) only [pup_x, pup_k, pup_c, pup_r]) | ((with_reducible refine pw_ast ?_ ?_ ?_); omega; omega) | ((with_reducible refine pw_idx ?_ ?_ ?_); omega; omega) | ((with_reducible refine pw_cp ?_ ?_ ?_ ?_ ?_ ?_); omega; omega; omega; omega; omega) | ((with_reducible refine pw_p32 ?_ ?_ ?_); omega; omega) | ((with_reducible refine pw_p64 ?_ ?_ ?_); omega; omega) | ((with_reducible refine pw_zlt ?_); try simp (disch := omega) only [pup_x, pup_k, pup_c, pup_r]) | ((with_reducible refine pw_bo ?_ ?_); omega) | ((with_reducible refine pw_mod ?_ ?_ ?_); omega; omega) | ((with_reducible refine pw_div ?_ ?_ ?_); omega; omega) | ((with_reducible refine pw_bite (fun _ => ?_) (fun _ => ?_)) <;> first | (exfalso; omega) | skip) | ((with_reducible refine pw_bsome ?_)) | ((with_reducible refine pw_bzlt ?_)) | ((with_reducible refine pw_bp32 ?_ ?_ ?_); omega; omega) | ((with_reducible refine pw_bass ?_)) | ((with_reducible refine pw_bex ?_)) | ((with_reducible refine pw_exr ?_)) | ((with_reducible refine pw_exl ?_)) | ((with_reducible refine pw_exite (fun _ => ?_) (fun _ => ?_)) <;> first | (exfalso; omega) | skip) | ((with_reducible refine pw_exz ?_)) | ((with_reducible refine pw_exp ?_ ?_ ?_); omega; omega) | ((with_reducible refine pw_exb ?_)))
        try dsimp only [pS2]
        refine ⟨⟨rfl, rfl, ⟨by first | (dsimp only; omega) | omega, by first | (dsimp only; omega) | omega⟩, ga.1, ?_⟩, by first | (dsimp only; omega) | omega⟩
        try dsimp only
        rw [hk1]; exact ga.2
      · repeat' (first | with_reducible refine pw_some ?_ | with_reducible refine pw_iteT ?_ | with_reducible refine pw_iteF ?_ | with_reducible refine pw_biteT ?_ | with_reducible refine pw_biteF ?_ | with_reducible refine pw_exiteT ?_ | with_reducible refine pw_exiteF ?_ | with_reducible refine pw_inr ?_ | with_reducible refine pw_inl ?_ | ((with_reducible refine pw_ite (fun _ => ?_) (fun _ => ?_)) <;> first | (exfalso; omega) | skip) | ((with_reducible refine pw_in (fun _ _ => ?_) (fun _ => ?_)) <;> first | (exfalso; omega) | skip) | ((with_reducible refine pw_isIn (fun _ _ => ?_) (fun _ => ?_)) <;> first | (exfalso; omega) | skip) | ((with_reducible refine pw_kin ?_ (fun _ _ => ?_) (fun _ => ?_)) ; (omega) <;> first | (exfalso; omega) | skip) | ((with_reducible refine pw_ckin ?_ (fun _ _ => ?_) (fun _ => ?_)); (omega) <;> first | (exfalso; omega) | skip) | ((with_reducible refine pw_many ?_); try simp (disch := omega) only [pup_x, pup_k, pup_c, pup_r]) | ((with_reducible refine pw_has0 ?_)) | ((with_reducible refine pw_has2 ?_)) | ((with_reducible refine pw_strapped ?_); try simp (disch := omega) only [pup_x, pup_k, pup_c, pup_r]) | ((with_reducible refine pw_ald ?_ ?_ ?_); omega; omega; try simp (disch := omega) only [pup_x, pup_k, pup_c, pup_r]) | ((with_reducible refine pw_ast ?_ ?_ ?_); omega; omega) | ((with_reducible refine pw_idx ?_ ?_ ?_); omega; omega) | ((with_reducible refine pw_cp ?_ ?_ ?_ ?_ ?_ ?_); omega; omega; omega; omega; omega) | ((with_reducible refine pw_p32 ?_ ?_ ?_); omega; omega) | ((with_reducible refine pw_p64 ?_ ?_ ?_); omega; omega) | ((with_reducible refine pw_zlt ?_); try simp (disch := omega) only [pup_x, pup_k, pup_c, pup_r]) | ((with_reducible refine pw_bo ?_ ?_); omega) | ((with_reducible refine pw_mod ?_ ?_ ?_); omega; omega) | ((with_reducible refine pw_div ?_ ?_ ?_); omega; omega) | ((with_reducible refine pw_bite (fun _ => ?_) (fun _ => ?_)) <;> first | (exfalso; omega) | skip) | ((with_reducible refine pw_bsome ?_)) | ((with_reducible refine pw_bzlt ?_)) | ((with_reducible refine pw_bp32 ?_ ?_ ?_); omega; omega) | ((with_reducible refine pw_bass ?_)) | ((with_reducible refine pw_bex ?_)) | ((with_reducible refine pw_exr ?_)) | ((with_reducible refine pw_exl ?_)) | ((with_reducible refine pw_exite (fun _ => ?_) (fun _ => ?_)) <;> first | (exfalso; omega) | skip) | ((with_reducible refine pw_exz ?_)) | ((with_reducible refine pw_exp ?_ ?_ ?_); omega; omega) | ((with_reducible refine pw_exb ?_)))
        try dsimp only [pS2]
        refine ⟨⟨rfl, rfl, ⟨by first | (dsimp only; omega) | omega, by first | (dsimp only; omega) | omega⟩, gb.1, ?_⟩, by first | (dsimp only; omega) | omega⟩
        try dsimp only
        rw [hk1]; exact gb.2
  exact ⟨x, ex, ey, x0, x1⟩
def pWy (a n : Int) (i : Int) : Int := match zLoop (pb_X0_near_54 a n i) zFuel (1, 1) with | some v => v | none => 0
def pWs (a n : Int) : Nat → Int
  | 0 => 0
  | k + 1 => pWs a n k + pWy a n (k : Int)
theorem k_wy {a n i : Int} (a0 : 1 ≤ a) (a1 : a ≤ 9) (n0 : 1 ≤ n) (n1 : n ≤ 12) : zLoop (pb_X0_near_54 a n i) zFuel (1, 1) = some (pWy a n i) ∧ zLoop (pb_X2_waysOf_17 a n i) zFuel (1, 0) = some (pWy a n i) ∧ 0 < pWy a n i ∧ pWy a n i ≤ 31381059609 := by
  obtain ⟨P, h1, h2, h3, h4⟩ := k_way (i := i) a0 a1 n0 n1
  have e : pWy a n i = P := by unfold pWy; rw [h1]
  rw [e]
  exact ⟨h1, h2, h3, h4⟩
theorem k_ws {a n : Int} (a0 : 1 ≤ a) (a1 : a ≤ 9) (n0 : 1 ≤ n) (n1 : n ≤ 12) : ∀ k : Nat, 0 ≤ pWs a n k ∧ pWs a n k ≤ 31381059609 * (k : Int) ∧ (0 < k → 0 < pWs a n k)
  | 0 => ⟨Int.le_refl _, by show (0 : Int) ≤ _; omega, fun x => absurd x (by omega)⟩
  | k + 1 => by
    have h := k_ws a0 a1 n0 n1 k
    have w := (k_wy (i := (k : Int)) a0 a1 n0 n1).2.2
    unfold pWs
    omega
set_option maxHeartbeats 400000 in
theorem k_ways {a m n : Int} (a0 : 1 ≤ a) (a1 : a ≤ 9) (n0 : 1 ≤ n) (n1 : n ≤ 12) (m0 : 0 ≤ m) (m1 : m ≤ n) : p_X2_waysOf a m n = some (pWs a n m.toNat) := by
  refine pw_to ?_
  unfold p_X2_waysOf
  refine pw_bind (fun w => w = pWs a n m.toNat) (pw_lp (fun s => (0 ≤ s.2 ∧ s.2 ≤ m) ∧ s.1 = pWs a n s.2.toNat) (fun s => (m - s.2).toNat) ?_ ⟨by first | (dsimp only; omega) | omega, rfl⟩ (by first | (dsimp only; omega) | omega)) (fun r hr => pw_some hr)
  rintro ⟨w, i⟩ ⟨⟨i0, i1⟩, hw⟩
  dsimp only at i0 i1 hw
  unfold pb_X2_waysOf_5
  dsimp only
  by_cases hi : i = m
  · repeat' (first | with_reducible refine pw_some ?_ | with_reducible refine pw_iteT ?_ | with_reducible refine pw_iteF ?_ | with_reducible refine pw_biteT ?_ | with_reducible refine pw_biteF ?_ | with_reducible refine pw_exiteT ?_ | with_reducible refine pw_exiteF ?_ | with_reducible refine pw_inr ?_ | with_reducible refine pw_inl ?_ | ((with_reducible refine pw_ite (fun _ => ?_) (fun _ => ?_)) <;> first | (exfalso; omega) | skip) | ((with_reducible refine pw_in (fun _ _ => ?_) (fun _ => ?_)) <;> first | (exfalso; omega) | skip) | ((with_reducible refine pw_isIn (fun _ _ => ?_) (fun _ => ?_)) <;> first | (exfalso; omega) | skip) | ((with_reducible refine pw_kin ?_ (fun _ _ => ?_) (fun _ => ?_)) ; (omega) <;> first | (exfalso; omega) | skip) | ((with_reducible refine pw_ckin ?_ (fun _ _ => ?_) (fun _ => ?_)); (omega) <;> first | (exfalso; omega) | skip) | ((with_reducible refine pw_many ?_); try simp (disch := omega) only [pup_x, pup_k, pup_c, pup_r]) | ((with_reducible refine pw_has0 ?_)) | ((with_reducible refine pw_has2 ?_)) | ((with_reducible refine pw_strapped ?_); try simp (disch := omega) only [pup_x, pup_k, pup_c, pup_r]) | ((with_reducible refine pw_ald ?_ ?_ ?_); omega; omega; try simp (disch := omega) only [pup_x, pup_k, pup_c, pup_r]) | ((with_reducible refine pw_ast ?_ ?_ ?_); omega; omega) | ((with_reducible refine pw_idx ?_ ?_ ?_); omega; omega) | ((with_reducible refine pw_cp ?_ ?_ ?_ ?_ ?_ ?_); omega; omega; omega; omega; omega) | ((with_reducible refine pw_p32 ?_ ?_ ?_); omega; omega) | ((with_reducible refine pw_p64 ?_ ?_ ?_); omega; omega) | ((with_reducible refine pw_zlt ?_); try simp (disch := omega) only [pup_x, pup_k, pup_c, pup_r]) | ((with_reducible refine pw_bo ?_ ?_); omega) | ((with_reducible refine pw_mod ?_ ?_ ?_); omega; omega) | ((with_reducible refine pw_div ?_ ?_ ?_); omega; omega) | ((with_reducible refine pw_bite (fun _ => ?_) (fun _ => ?_)) <;> first | (exfalso; omega) | skip) | ((with_reducible refine pw_bsome ?_)) | ((with_reducible refine pw_bzlt ?_)) | ((with_reducible refine pw_bp32 ?_ ?_ ?_); omega; omega) | ((with_reducible refine pw_bass ?_)) | ((with_reducible refine pw_bex ?_)) | ((with_reducible refine pw_exr ?_)) | ((with_reducible refine pw_exl ?_)) | ((with_reducible refine pw_exite (fun _ => ?_) (fun _ => ?_)) <;> first | (exfalso; omega) | skip) | ((with_reducible refine pw_exz ?_)) | ((with_reducible refine pw_exp ?_ ?_ ?_); omega; omega) | ((with_reducible refine pw_exb ?_)))
    rw [hw, hi]
    exact rfl
  · have hy := k_wy (i := i) a0 a1 n0 n1
    have hs := k_ws a0 a1 n0 n1 i.toNat
    have e1 : (i + 1).toNat = i.toNat + 1 := by omega
    have e2 : pWs a n (i.toNat + 1) = pWs a n i.toNat + pWy a n i := by
      show pWs a n i.toNat + pWy a n ((i.toNat : Nat) : Int) = _
      rw [Int.toNat_of_nonneg i0]
    refine pw_ite (fun x => absurd x (by omega)) (fun _ => pw_beq hy.2.1 ?_)
    refine pw_p64 (by omega) (by omega) (pw_p32 (by omega) (by omega) (pw_inr ⟨⟨by first | (dsimp only; omega) | omega, ?_⟩, by first | (dsimp only; omega) | omega⟩))
    dsimp only
    rw [e1, e2, hw]
set_option maxHeartbeats 1000000 in
theorem q_near {S T : zP} (a m n b : Int) : pw (p_X0_near S a m n b) (fun z => pw (p_X2_near T a m n b) (fun t => z = t)) := by
  unfold p_X0_near p_X2_near
  by_cases ha : (1 ≤ a ∧ a ≤ 9) ∧ (1 ≤ n ∧ n ≤ 12) ∧ 0 ≤ m ∧ m ≤ n
  · obtain ⟨⟨a0, a1⟩, ⟨n0, n1⟩, m0, m1⟩ := ha
    have hs1 := k_ws a0 a1 n0 n1 m.toNat
    have hs2 := k_ws a0 a1 n0 n1 n.toNat
    have w1 := k_ways a0 a1 n0 n1 m0 m1
    have w2 := k_ways a0 a1 n0 n1 (m := n) (by omega) (by omega)
    have hl : zLoop (pb_X0_near_42 a m n) zFuel (0, 0, 0) = some (pWs a n m.toNat, pWs a n n.toNat) := by
      refine pw_to (pw_lp (fun s => (0 ≤ s.2.2 ∧ s.2.2 ≤ n) ∧ s.2.1 = pWs a n s.2.2.toNat ∧ s.1 = pWs a n (if s.2.2 ≤ m then s.2.2 else m).toNat) (fun s => (n - s.2.2).toNat) ?_ ⟨by first | (dsimp only; omega) | omega, rfl, by dsimp only; rw [if_pos m0]; rfl⟩ (by first | (dsimp only; omega) | omega))
      rintro ⟨u, w, i⟩ ⟨⟨i0, i1⟩, hw, hu⟩
      dsimp only at i0 i1 hw hu
      unfold pb_X0_near_42
      dsimp only
      by_cases hi : i = n
      · have e : (if i ≤ m then i else m) = m := by
          by_cases x : i ≤ m
          · rw [if_pos x]; omega
          · rw [if_neg x]
        rw [e] at hu
        repeat' (first | with_reducible refine pw_some ?_ | with_reducible refine pw_iteT ?_ | with_reducible refine pw_iteF ?_ | with_reducible refine pw_biteT ?_ | with_reducible refine pw_biteF ?_ | with_reducible refine pw_exiteT ?_ | with_reducible refine pw_exiteF ?_ | with_reducible refine pw_inr ?_ | with_reducible refine pw_inl ?_ | ((with_reducible refine pw_ite (fun _ => ?_) (fun _ => ?_)) <;> first | (exfalso; omega) | skip) | ((with_reducible refine pw_in (fun _ _ => ?_) (fun _ => ?_)) <;> first | (exfalso; omega) | skip) | ((with_reducible refine pw_isIn (fun _ _ => ?_) (fun _ => ?_)) <;> first | (exfalso; omega) | skip) | ((with_reducible refine pw_kin ?_ (fun _ _ => ?_) (fun _ => ?_)) ; (omega) <;> first | (exfalso; omega) | skip) | ((with_reducible refine pw_ckin ?_ (fun _ _ => ?_) (fun _ => ?_)); (omega) <;> first | (exfalso; omega) | skip) | ((with_reducible refine pw_many ?_); try simp (disch := omega) only [pup_x, pup_k, pup_c, pup_r]) | ((with_reducible refine pw_has0 ?_)) | ((with_reducible refine pw_has2 ?_)) | ((with_reducible refine pw_strapped ?_); try simp (disch := omega) only [pup_x, pup_k, pup_c, pup_r]) | ((with_reducible refine pw_ald ?_ ?_ ?_); omega; omega; try simp (disch := omega) only [pup_x, pup_k, pup_c, pup_r]) | ((with_reducible refine pw_ast ?_ ?_ ?_); omega; omega) | ((with_reducible refine pw_idx ?_ ?_ ?_); omega; omega) | ((with_reducible refine pw_cp ?_ ?_ ?_ ?_ ?_ ?_); omega; omega; omega; omega; omega) | ((with_reducible refine pw_p32 ?_ ?_ ?_); omega; omega) | ((with_reducible refine pw_p64 ?_ ?_ ?_); omega; omega) | ((with_reducible refine pw_zlt ?_); try simp (disch := omega) only [pup_x, pup_k, pup_c, pup_r]) | ((with_reducible refine pw_bo ?_ ?_); omega) | ((with_reducible refine pw_mod ?_ ?_ ?_); omega; omega) | ((with_reducible refine pw_div ?_ ?_ ?_); omega; omega) | ((with_reducible refine pw_bite (fun _ => ?_) (fun _ => ?_)) <;> first | (exfalso; omega) | skip) | ((with_reducible refine pw_bsome ?_)) | ((with_reducible refine pw_bzlt ?_)) | ((with_reducible refine pw_bp32 ?_ ?_ ?_); omega; omega) | ((with_reducible refine pw_bass ?_)) | ((with_reducible refine pw_bex ?_)) | ((with_reducible refine pw_exr ?_)) | ((with_reducible refine pw_exl ?_)) | ((with_reducible refine pw_exite (fun _ => ?_) (fun _ => ?_)) <;> first | (exfalso; omega) | skip) | ((with_reducible refine pw_exz ?_)) | ((with_reducible refine pw_exp ?_ ?_ ?_); omega; omega) | ((with_reducible refine pw_exb ?_)))
        rw [hw, hu, hi]
        exact rfl
      · have hy := k_wy (i := i) a0 a1 n0 n1
        have hs := k_ws a0 a1 n0 n1 i.toNat
        have e1 : (i + 1).toNat = i.toNat + 1 := by omega
        have e2 : pWs a n (i.toNat + 1) = pWs a n i.toNat + pWy a n i := by
          show pWs a n i.toNat + pWy a n ((i.toNat : Nat) : Int) = _
          rw [Int.toNat_of_nonneg i0]
        by_cases hm : m ≤ i
        · have e3 : (if i ≤ m then i else m) = m := by
            by_cases x : i ≤ m
            · rw [if_pos x]; omega
            · rw [if_neg x]
          have e4 : (if i + 1 ≤ m then i + 1 else m) = m := if_neg (by omega)
          rw [e3] at hu
          refine pw_ite (fun x => absurd x (by omega)) (fun _ => pw_beq hy.1 ?_)
          refine pw_bite (fun _ => pw_bsome ?_) (fun x => absurd hm x)
          refine pw_p64 (by omega) (by omega) (pw_p64 (by omega) (by omega) (pw_p32 (by omega) (by omega) (pw_inr ⟨⟨by first | (dsimp only; omega) | omega, ?_, ?_⟩, by first | (dsimp only; omega) | omega⟩)))
          · dsimp only
            rw [e1, e2, hw]
          · dsimp only
            rw [e4, hu]; omega
        · have e3 : (if i ≤ m then i else m) = i := if_pos (by omega)
          have e4 : (if i + 1 ≤ m then i + 1 else m) = i + 1 := if_pos (by omega)
          rw [e3] at hu
          refine pw_ite (fun x => absurd x (by omega)) (fun _ => pw_beq hy.1 ?_)
          refine pw_bite (fun x => absurd x hm) (fun _ => pw_bsome ?_)
          refine pw_p64 (by omega) (by omega) (pw_p64 (by omega) (by omega) (pw_p32 (by omega) (by omega) (pw_inr ⟨⟨by first | (dsimp only; omega) | omega, ?_, ?_⟩, by first | (dsimp only; omega) | omega⟩)))
          · dsimp only
            rw [e1, e2, hw]
          · dsimp only
            rw [e4, e1, e2, hu]
    obtain ⟨p, hp⟩ : ∃ p : Nat, (p : Int) = pWs a n m.toNat := ⟨(pWs a n m.toNat).toNat, Int.toNat_of_nonneg hs1.1⟩
    obtain ⟨q, hq⟩ : ∃ q : Nat, (q : Int) = pWs a n n.toNat := ⟨(pWs a n n.toNat).toNat, Int.toNat_of_nonneg hs2.1⟩
    have q0 : 0 < q := by have := hs2.2.2 (by omega); omega
    have h45 : (2 : Nat) ^ 45 = 35184372088832 := by decide
    have hc : p_X0_common (q : Int) (p : Int) = some ((Nat.gcd q p : Nat) : Int) := k_rc 45 120 q p (by omega) (by omega)
    have hd : p_X2_longDivisor (p : Int) (q : Int) = some ((Nat.gcd q p : Nat) : Int) := by
      unfold p_X2_longDivisor
      rw [k_lz 45 zFuel p q (by unfold zFuel; omega) (by omega), Nat.gcd_comm p q]
      rfl
    have hgp : 0 < Nat.gcd q p := Nat.gcd_pos_of_pos_left _ q0
    rw [← hp, ← hq] at hl
    rw [← hp] at w1
    rw [← hq] at w2
    obtain ⟨g, eg⟩ : ∃ g : Nat, g = Nat.gcd q p := ⟨_, rfl⟩
    rw [← eg] at hc hd hgp
    obtain ⟨w, ew, w0⟩ : ∃ w : Int, (if b = 0 then some (p : Int) else some (q : Int) : Option Int) = some w ∧ 0 ≤ w := by
      by_cases hb : b = 0
      · exact ⟨p, if_pos hb, by omega⟩
      · exact ⟨q, if_neg hb, by omega⟩
    repeat' (first | with_reducible refine pw_some ?_ | with_reducible refine pw_iteT ?_ | with_reducible refine pw_iteF ?_ | with_reducible refine pw_biteT ?_ | with_reducible refine pw_biteF ?_ | with_reducible refine pw_exiteT ?_ | with_reducible refine pw_exiteF ?_ | with_reducible refine pw_inr ?_ | with_reducible refine pw_inl ?_ | ((with_reducible refine pw_ite (fun _ => ?_) (fun _ => ?_)) <;> first | (exfalso; omega) | skip) | ((with_reducible refine pw_in (fun _ _ => ?_) (fun _ => ?_)) <;> first | (exfalso; omega) | skip) | ((with_reducible refine pw_isIn (fun _ _ => ?_) (fun _ => ?_)) <;> first | (exfalso; omega) | skip) | ((with_reducible refine pw_kin ?_ (fun _ _ => ?_) (fun _ => ?_)) ; (omega) <;> first | (exfalso; omega) | skip) | ((with_reducible refine pw_ckin ?_ (fun _ _ => ?_) (fun _ => ?_)); (omega) <;> first | (exfalso; omega) | skip) | ((with_reducible refine pw_many ?_); try simp (disch := omega) only [pup_x, pup_k, pup_c, pup_r]) | ((with_reducible refine pw_has0 ?_)) | ((with_reducible refine pw_has2 ?_)) | ((with_reducible refine pw_strapped ?_); try simp (disch := omega) only [pup_x, pup_k, pup_c, pup_r]) | ((with_reducible refine pw_ald ?_ ?_ ?_); omega; omega; try simp (disch := omega) only [pup_x, pup_k, pup_c, pup_r]) | ((with_reducible refine pw_ast ?_ ?_ ?_); omega; omega) | ((with_reducible refine pw_idx ?_ ?_ ?_); omega; omega) | ((with_reducible refine pw_cp ?_ ?_ ?_ ?_ ?_ ?_); omega; omega; omega; omega; omega) | ((with_reducible refine pw_p32 ?_ ?_ ?_); omega; omega) | ((with_reducible refine pw_p64 ?_ ?_ ?_); omega; omega) | ((with_reducible refine pw_zlt ?_); try simp (disch := omega) only [pup_x, pup_k, pup_c, pup_r]) | ((with_reducible refine pw_bo ?_ ?_); omega) | ((with_reducible refine pw_mod ?_ ?_ ?_); omega; omega) | ((with_reducible refine pw_div ?_ ?_ ?_); omega; omega) | ((with_reducible refine pw_bite (fun _ => ?_) (fun _ => ?_)) <;> first | (exfalso; omega) | skip) | ((with_reducible refine pw_bsome ?_)) | ((with_reducible refine pw_bzlt ?_)) | ((with_reducible refine pw_bp32 ?_ ?_ ?_); omega; omega) | ((with_reducible refine pw_bass ?_)) | ((with_reducible refine pw_bex ?_)) | ((with_reducible refine pw_exr ?_)) | ((with_reducible refine pw_exl ?_)) | ((with_reducible refine pw_exite (fun _ => ?_) (fun _ => ?_)) <;> first | (exfalso; omega) | skip) | ((with_reducible refine pw_exz ?_)) | ((with_reducible refine pw_exp ?_ ?_ ?_); omega; omega) | ((with_reducible refine pw_exb ?_)))
    refine pw_beq hl ?_
    try dsimp only
    have hpart : p_X0_part (p : Int) (q : Int) b = some (w / (g : Int)) := by
      refine pw_to ?_
      unfold p_X0_part
      exact pw_beq ew (pw_beq hc (pw_jdiv w0 (by omega) (pw_some rfl)))
    refine pw_beq hpart (pw_some ?_)
    repeat' (first | with_reducible refine pw_some ?_ | with_reducible refine pw_iteT ?_ | with_reducible refine pw_iteF ?_ | with_reducible refine pw_biteT ?_ | with_reducible refine pw_biteF ?_ | with_reducible refine pw_exiteT ?_ | with_reducible refine pw_exiteF ?_ | with_reducible refine pw_inr ?_ | with_reducible refine pw_inl ?_ | ((with_reducible refine pw_ite (fun _ => ?_) (fun _ => ?_)) <;> first | (exfalso; omega) | skip) | ((with_reducible refine pw_in (fun _ _ => ?_) (fun _ => ?_)) <;> first | (exfalso; omega) | skip) | ((with_reducible refine pw_isIn (fun _ _ => ?_) (fun _ => ?_)) <;> first | (exfalso; omega) | skip) | ((with_reducible refine pw_kin ?_ (fun _ _ => ?_) (fun _ => ?_)) ; (omega) <;> first | (exfalso; omega) | skip) | ((with_reducible refine pw_ckin ?_ (fun _ _ => ?_) (fun _ => ?_)); (omega) <;> first | (exfalso; omega) | skip) | ((with_reducible refine pw_many ?_); try simp (disch := omega) only [pup_x, pup_k, pup_c, pup_r]) | ((with_reducible refine pw_has0 ?_)) | ((with_reducible refine pw_has2 ?_)) | ((with_reducible refine pw_strapped ?_); try simp (disch := omega) only [pup_x, pup_k, pup_c, pup_r]) | ((with_reducible refine pw_ald ?_ ?_ ?_); omega; omega; try simp (disch := omega) only [pup_x, pup_k, pup_c, pup_r]) | ((with_reducible refine pw_ast ?_ ?_ ?_); omega; omega) | ((with_reducible refine pw_idx ?_ ?_ ?_); omega; omega) | ((with_reducible refine pw_cp ?_ ?_ ?_ ?_ ?_ ?_); omega; omega; omega; omega; omega) | ((with_reducible refine pw_p32 ?_ ?_ ?_); omega; omega) | ((with_reducible refine pw_p64 ?_ ?_ ?_); omega; omega) | ((with_reducible refine pw_zlt ?_); try simp (disch := omega) only [pup_x, pup_k, pup_c, pup_r]) | ((with_reducible refine pw_bo ?_ ?_); omega) | ((with_reducible refine pw_mod ?_ ?_ ?_); omega; omega) | ((with_reducible refine pw_div ?_ ?_ ?_); omega; omega) | ((with_reducible refine pw_bite (fun _ => ?_) (fun _ => ?_)) <;> first | (exfalso; omega) | skip) | ((with_reducible refine pw_bsome ?_)) | ((with_reducible refine pw_bzlt ?_)) | ((with_reducible refine pw_bp32 ?_ ?_ ?_); omega; omega) | ((with_reducible refine pw_bass ?_)) | ((with_reducible refine pw_bex ?_)) | ((with_reducible refine pw_exr ?_)) | ((with_reducible refine pw_exl ?_)) | ((with_reducible refine pw_exite (fun _ => ?_) (fun _ => ?_)) <;> first | (exfalso; omega) | skip) | ((with_reducible refine pw_exz ?_)) | ((with_reducible refine pw_exp ?_ ?_ ?_); omega; omega) | ((with_reducible refine pw_exb ?_)))
    refine pw_beq w1 (pw_beq w2 (pw_beq ew (pw_beq hd (pw_jdiv w0 (by omega) (pw_some rfl)))))
  · repeat' (first | with_reducible refine pw_some ?_ | with_reducible refine pw_iteT ?_ | with_reducible refine pw_iteF ?_ | with_reducible refine pw_biteT ?_ | with_reducible refine pw_biteF ?_ | with_reducible refine pw_exiteT ?_ | with_reducible refine pw_exiteF ?_ | with_reducible refine pw_inr ?_ | with_reducible refine pw_inl ?_ | ((with_reducible refine pw_ite (fun _ => ?_) (fun _ => ?_)) <;> first | (exfalso; omega) | skip) | ((with_reducible refine pw_in (fun _ _ => ?_) (fun _ => ?_)) <;> first | (exfalso; omega) | skip) | ((with_reducible refine pw_isIn (fun _ _ => ?_) (fun _ => ?_)) <;> first | (exfalso; omega) | skip) | ((with_reducible refine pw_kin ?_ (fun _ _ => ?_) (fun _ => ?_)) ; (omega) <;> first | (exfalso; omega) | skip) | ((with_reducible refine pw_ckin ?_ (fun _ _ => ?_) (fun _ => ?_)); (omega) <;> first | (exfalso; omega) | skip) | ((with_reducible refine pw_many ?_); try simp (disch := omega) only [pup_x, pup_k, pup_c, pup_r]) | ((with_reducible refine pw_has0 ?_)) | ((with_reducible refine pw_has2 ?_)) | ((with_reducible refine pw_strapped ?_); try simp (disch := omega) only [pup_x, pup_k, pup_c, pup_r]) | ((with_reducible refine pw_ald ?_ ?_ ?_); omega; omega; try simp (disch := omega) only [pup_x, pup_k, pup_c, pup_r]) | ((with_reducible refine pw_ast ?_ ?_ ?_); omega; omega) | ((with_reducible refine pw_idx ?_ ?_ ?_); omega; omega) | ((with_reducible refine pw_cp ?_ ?_ ?_ ?_ ?_ ?_); omega; omega; omega; omega; omega) | ((with_reducible refine pw_p32 ?_ ?_ ?_); omega; omega) | ((with_reducible refine pw_p64 ?_ ?_ ?_); omega; omega) | ((with_reducible refine pw_zlt ?_); try simp (disch := omega) only [pup_x, pup_k, pup_c, pup_r]) | ((with_reducible refine pw_bo ?_ ?_); omega) | ((with_reducible refine pw_mod ?_ ?_ ?_); omega; omega) | ((with_reducible refine pw_div ?_ ?_ ?_); omega; omega) | ((with_reducible refine pw_bite (fun _ => ?_) (fun _ => ?_)) <;> first | (exfalso; omega) | skip) | ((with_reducible refine pw_bsome ?_)) | ((with_reducible refine pw_bzlt ?_)) | ((with_reducible refine pw_bp32 ?_ ?_ ?_); omega; omega) | ((with_reducible refine pw_bass ?_)) | ((with_reducible refine pw_bex ?_)) | ((with_reducible refine pw_exr ?_)) | ((with_reducible refine pw_exl ?_)) | ((with_reducible refine pw_exite (fun _ => ?_) (fun _ => ?_)) <;> first | (exfalso; omega) | skip) | ((with_reducible refine pw_exz ?_)) | ((with_reducible refine pw_exp ?_ ?_ ?_); omega; omega) | ((with_reducible refine pw_exb ?_)))
    all_goals rfl
