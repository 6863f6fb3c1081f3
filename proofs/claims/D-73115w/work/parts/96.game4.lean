/-! PURE, the game: bite -/
set_option maxRecDepth 100000
theorem p32_n {β : Type} {x : Int} {K : Int → Option β} (h0 : -2147483648 ≤ x) (h1 : x ≤ 2147483647) : p32 x K = K x := if_pos ⟨h0, h1⟩
theorem zF6 : zFuel = 999994 + 6 := rfl
section
variable {W : pW} {S T S0 : zP} {a v : Int}
theorem wd_l (F : Nat) (v : Int) : zLoop pb_X0_wideOf_4 (F + 1) (v, 4) = some v := zLoop_l (by
  unfold pb_X0_wideOf_4
  dsimp only
  rw [if_pos (by omega)])
theorem wd_r (F : Nat) {v r : Int} (v0 : 0 ≤ v) (r0 : 0 ≤ r) (r1 : r < 4) : zLoop pb_X0_wideOf_4 (F + 1) (v, r) = zLoop pb_X0_wideOf_4 F (v / 10, r + 1) := zLoop_r (by
  unfold pb_X0_wideOf_4
  dsimp only [zlt]
  rw [if_neg (by omega), pdv_n v0]
  unfold p32
  rw [if_pos (by omega)])
theorem k_wide (a0 : 0 ≤ a) : p_X0_wideOf a 0 = some (a / 10000 % 10) ∧ p_X0_wideOf a 1 = some (a / 1000 % 10) ∧ p_X0_wideOf a 2 = some (a / 100 % 10) ∧ p_X0_wideOf a 3 = some (a / 10 % 10) ∧ p_X0_wideOf a 4 = some (a % 10) := by
  have fin : ∀ r x : Int, zLoop pb_X0_wideOf_4 zFuel (a, r) = some x → 0 ≤ x → p_X0_wideOf a r = some (x % 10) := fun r x h hx => by
    unfold p_X0_wideOf
    rw [h]
    dsimp only [Option.bind_some, zlt]
    rw [prm_n hx]
  have d3 : 0 ≤ a / 10 := by omega
  have d2 : 0 ≤ a / 10 / 10 := by omega
  have d1 : 0 ≤ a / 10 / 10 / 10 := by omega
  refine ⟨?_, ?_, ?_, ?_, ?_⟩
  · rw [show a / 10000 = a / 10 / 10 / 10 / 10 by omega]
    refine fin _ _ ?_ (by omega)
    rw [zF6, wd_r _ a0 (by omega) (by omega), wd_r _ d3 (by omega) (by omega), wd_r _ d2 (by omega) (by omega), wd_r _ d1 (by omega) (by omega)]
    exact wd_l _ _
  · rw [show a / 1000 = a / 10 / 10 / 10 by omega]
    refine fin _ _ ?_ (by omega)
    rw [zF6, wd_r _ a0 (by omega) (by omega), wd_r _ d3 (by omega) (by omega), wd_r _ d2 (by omega) (by omega)]
    exact wd_l _ _
  · rw [show a / 100 = a / 10 / 10 by omega]
    refine fin _ _ ?_ (by omega)
    rw [zF6, wd_r _ a0 (by omega) (by omega), wd_r _ d3 (by omega) (by omega)]
    exact wd_l _ _
  · refine fin _ _ ?_ (by omega)
    rw [zF6, wd_r _ a0 (by omega) (by omega)]
    exact wd_l _ _
  · refine fin _ _ ?_ (by omega)
    rw [zF6]
    exact wd_l _ _
theorem rw_l (F : Nat) {v r t : Int} (h : t ≤ r) : zLoop (pb_X2_rowOf_4 r) (F + 1) (v, t) = some v := zLoop_l (by
  unfold pb_X2_rowOf_4
  dsimp only
  rw [if_pos h])
theorem rw_r (F : Nat) {v r t : Int} (v0 : 0 ≤ v) (r0 : 0 ≤ r) (h : r < t) (h4 : t ≤ 4) : zLoop (pb_X2_rowOf_4 r) (F + 1) (v, t) = zLoop (pb_X2_rowOf_4 r) F (v / 6, t - 1) := zLoop_r (by
  unfold pb_X2_rowOf_4
  dsimp only [zlt]
  rw [if_neg (by omega), pdv_n v0]
  unfold p32
  rw [if_pos (by omega)]
  rfl)
theorem k_rowOf (a0 : 0 ≤ a) : p_X2_rowOf a 0 = some (a / 1296 % 6) ∧ p_X2_rowOf a 1 = some (a / 216 % 6) ∧ p_X2_rowOf a 2 = some (a / 36 % 6) ∧ p_X2_rowOf a 3 = some (a / 6 % 6) ∧ p_X2_rowOf a 4 = some (a % 6) := by
  have fin : ∀ r x : Int, zLoop (pb_X2_rowOf_4 r) zFuel (a, 4) = some x → 0 ≤ x → p_X2_rowOf a r = some (x % 6) := fun r x h hx => by
    unfold p_X2_rowOf
    rw [h]
    dsimp only [Option.bind_some, zlt]
    rw [prm_n hx]
  have d3 : 0 ≤ a / 6 := by omega
  have d2 : 0 ≤ a / 6 / 6 := by omega
  have d1 : 0 ≤ a / 6 / 6 / 6 := by omega
  refine ⟨?_, ?_, ?_, ?_, ?_⟩
  · rw [show a / 1296 = a / 6 / 6 / 6 / 6 by omega]
    refine fin _ _ ?_ (by omega)
    rw [zF6, rw_r _ a0 (by omega) (by omega) (by omega), rw_r _ d3 (by omega) (by omega) (by omega), rw_r _ d2 (by omega) (by omega) (by omega), rw_r _ d1 (by omega) (by omega) (by omega)]
    exact rw_l _ (by omega)
  · rw [show a / 216 = a / 6 / 6 / 6 by omega]
    refine fin _ _ ?_ (by omega)
    rw [zF6, rw_r _ a0 (by omega) (by omega) (by omega), rw_r _ d3 (by omega) (by omega) (by omega), rw_r _ d2 (by omega) (by omega) (by omega)]
    exact rw_l _ (by omega)
  · rw [show a / 36 = a / 6 / 6 by omega]
    refine fin _ _ ?_ (by omega)
    rw [zF6, rw_r _ a0 (by omega) (by omega) (by omega), rw_r _ d3 (by omega) (by omega) (by omega)]
    exact rw_l _ (by omega)
  · refine fin _ _ ?_ (by omega)
    rw [zF6, rw_r _ a0 (by omega) (by omega) (by omega)]
    exact rw_l _ (by omega)
  · refine fin _ _ ?_ (by omega)
    rw [zF6]
    exact rw_l _ (by omega)
def gHorn (d : Int) : Int := 6 * (6 * (6 * (6 * (d / 10000 % 10) + d / 1000 % 10) + d / 100 % 10) + d / 10 % 10) + d % 10
theorem gH_all : gSh.all (fun d => decide (gE d = gHorn d)) = true := by decide +kernel
theorem g6_dec : g6.all (fun e => decide (gR e 1 ≤ gR e 0 ∧ gR e 2 ≤ gR e 1 ∧ gR e 3 ≤ gR e 2 ∧ gR e 4 ≤ gR e 3)) = true := by decide +kernel
theorem gSh_of (a0 : 0 ≤ a) (h : a ≤ 55555) (h0 : a / 10000 % 10 ≤ 5) (h1 : a / 1000 % 10 ≤ a / 10000 % 10) (h2 : a / 100 % 10 ≤ a / 1000 % 10) (h3 : a / 10 % 10 ≤ a / 100 % 10) (h4 : a % 10 ≤ a / 10 % 10) : a ∈ gSh := by
  unfold gSh
  refine List.mem_flatMap.mpr ⟨(a / 10000 % 10).toNat, List.mem_range.mpr (by omega), ?_⟩
  refine List.mem_flatMap.mpr ⟨(a / 1000 % 10).toNat, List.mem_range.mpr (by omega), ?_⟩
  refine List.mem_flatMap.mpr ⟨(a / 100 % 10).toNat, List.mem_range.mpr (by omega), ?_⟩
  refine List.mem_flatMap.mpr ⟨(a / 10 % 10).toNat, List.mem_range.mpr (by omega), ?_⟩
  refine List.mem_map.mpr ⟨(a % 10).toNat, List.mem_range.mpr (by omega), ?_⟩
  have e0 : a / 10000 % 10 = a / 10000 := by omega
  have e1 : a / 1000 / 10 = a / 10000 := by omega
  have e2 : a / 100 / 10 = a / 1000 := by omega
  have e3 : a / 10 / 10 = a / 100 := by omega
  have t0 : (((a / 10000 % 10).toNat : Nat) : Int) = a / 10000 % 10 := Int.toNat_of_nonneg (by omega)
  have t1 : (((a / 1000 % 10).toNat : Nat) : Int) = a / 1000 % 10 := Int.toNat_of_nonneg (by omega)
  have t2 : (((a / 100 % 10).toNat : Nat) : Int) = a / 100 % 10 := Int.toNat_of_nonneg (by omega)
  have t3 : (((a / 10 % 10).toNat : Nat) : Int) = a / 10 % 10 := Int.toNat_of_nonneg (by omega)
  have t4 : (((a % 10).toNat : Nat) : Int) = a % 10 := Int.toNat_of_nonneg (by omega)
  obtain ⟨x0, hx0⟩ : ∃ x, x = a / 10000 := ⟨_, rfl⟩
  obtain ⟨x1, hx1⟩ : ∃ x, x = a / 1000 := ⟨_, rfl⟩
  obtain ⟨x2, hx2⟩ : ∃ x, x = a / 100 := ⟨_, rfl⟩
  obtain ⟨x3, hx3⟩ : ∃ x, x = a / 10 := ⟨_, rfl⟩
  rw [Int.natCast_add, Int.natCast_add, Int.natCast_add, Int.natCast_add, Int.natCast_mul, Int.natCast_mul, Int.natCast_mul, Int.natCast_mul, t0, t1, t2, t3, t4]
  rw [← hx0] at e0 e1 ⊢
  rw [← hx1] at e1 e2 ⊢
  rw [← hx2] at e2 e3 ⊢
  rw [← hx3] at e3 ⊢
  omega
theorem hornD {w0 w1 w2 w3 w4 : Int} (h0 : 0 ≤ w0 ∧ w0 ≤ 5) (h1 : 0 ≤ w1 ∧ w1 ≤ 5) (h2 : 0 ≤ w2 ∧ w2 ≤ 5) (h3 : 0 ≤ w3 ∧ w3 ≤ 5) (h4 : 0 ≤ w4 ∧ w4 ≤ 5) : (6 * (6 * (6 * (6 * w0 + w1) + w2) + w3) + w4) / 1296 % 6 = w0 ∧ (6 * (6 * (6 * (6 * w0 + w1) + w2) + w3) + w4) / 216 % 6 = w1 ∧ (6 * (6 * (6 * (6 * w0 + w1) + w2) + w3) + w4) / 36 % 6 = w2 ∧ (6 * (6 * (6 * (6 * w0 + w1) + w2) + w3) + w4) / 6 % 6 = w3 ∧ (6 * (6 * (6 * (6 * w0 + w1) + w2) + w3) + w4) % 6 = w4 := by
  refine ⟨?_, ?_, ?_, ?_, ?_⟩ <;> omega
theorem gH0 (a0 : 0 ≤ a) (a1 : a ≤ 55555) (hd : a / 10000 % 10 ≤ 5 ∧ a / 1000 % 10 ≤ 5 ∧ a / 100 % 10 ≤ 5 ∧ a / 10 % 10 ≤ 5 ∧ a % 10 ≤ 5) (hs : ¬ ((10000 ≤ a ∧ a ≤ 55555) ∧ a / 10000 % 10 ≤ 5 ∧ a / 1000 % 10 ≤ a / 10000 % 10 ∧ a / 100 % 10 ≤ a / 1000 % 10 ∧ a / 10 % 10 ≤ a / 100 % 10 ∧ a % 10 ≤ a / 10 % 10)) (g1 : gHorn a / 216 % 6 ≤ gHorn a / 1296 % 6) (g2 : gHorn a / 36 % 6 ≤ gHorn a / 216 % 6) (g3 : gHorn a / 6 % 6 ≤ gHorn a / 36 % 6) (g4 : gHorn a % 6 ≤ gHorn a / 6 % 6) : gHorn a = 0 := by
  have e0 : a / 10000 % 10 = 0 → ¬ (10000 ≤ a ∧ a ≤ 55555) := by omega
  have e1 : ¬ (10000 ≤ a ∧ a ≤ 55555) → a / 10000 % 10 = 0 := by omega
  have hD := hornD (w0 := a / 10000 % 10) (w1 := a / 1000 % 10) (w2 := a / 100 % 10) (w3 := a / 10 % 10) (w4 := a % 10) (by omega) (by omega) (by omega) (by omega) (by omega)
  obtain ⟨p0, p1, p2, p3, p4⟩ := hD
  unfold gHorn at g1 g2 g3 g4 ⊢
  rw [p1, p0] at g1
  rw [p2, p1] at g2
  rw [p3, p2] at g3
  rw [p4, p3] at g4
  have hx : ¬ (10000 ≤ a ∧ a ≤ 55555) := fun x => hs ⟨x, hd.1, g1, g2, g3, g4⟩
  have e2 := e1 hx
  have w1 : 0 ≤ a / 1000 % 10 := by omega
  have w2 : 0 ≤ a / 100 % 10 := by omega
  have w3 : 0 ≤ a / 10 % 10 := by omega
  have w4 : 0 ≤ a % 10 := by omega
  clear hs hx e0 e1 p0 p1 p2 p3 p4
  generalize a / 10000 % 10 = x0 at *
  generalize a / 1000 % 10 = x1 at *
  generalize a / 100 % 10 = x2 at *
  generalize a / 10 % 10 = x3 at *
  generalize a % 10 = x4 at *
  omega
theorem b23 {b k b' k' v' : Int} (a0 : 0 ≤ a) (a1 : a ≤ 55555) (hb : 0 < b) (k0 : 0 ≤ k) (hk : k < 5) (v0 : 0 ≤ v) (v1 : v ≤ 10000) (eb : b / 10 = b') (ek : k + 1 = k') (ev : 6 * v + a / b % 10 = v') (F : Nat) : (a / b % 10 ≤ 5 → zLoop (pb_X2_bite_23 S a) (F + 1) (v, b, k) = zLoop (pb_X2_bite_23 S a) F (v', b', k')) ∧ (5 < a / b % 10 → zLoop (pb_X2_bite_23 S a) (F + 1) (v, b, k) = some (.inl (-1, S))) := by
  have hd : pdiv a b = some (a / b) := by
    unfold pdiv
    rw [if_neg (by omega), Int.tdiv_eq_ediv_of_nonneg a0]
  have hq : 0 ≤ a / b := Int.ediv_nonneg a0 (by omega)
  have base : pb_X2_bite_23 S a (v, b, k) = if a / b % 10 ≤ 5 then p32 (6 * v + a / b % 10) fun v10 => p32 (k + 1) fun v12 => some (.inr (v10, b / 10, v12)) else some (.inl (.inl (-1, S))) := by
    unfold pb_X2_bite_23
    dsimp only [zlt]
    rw [if_neg (by omega), hd]
    dsimp only [Option.bind_some]
    rw [prm_n hq, pdv_n (by omega)]
  refine ⟨fun h => zLoop_r ?_, fun h => zLoop_l ?_⟩
  · rw [base, if_pos h, p32_n (by omega) (by omega), p32_n (by omega) (by omega), eb, ek, ev]
  · rw [base, if_neg (by omega)]
theorem b23e (F : Nat) : zLoop (pb_X2_bite_23 S a) (F + 1) (v, 0, 5) = some (.inr v) := zLoop_l (by
  unfold pb_X2_bite_23
  dsimp only
  rw [if_pos (by omega)])
theorem k_horn (a0 : 0 ≤ a) (a1 : a ≤ 55555) : ((a / 10000 % 10 ≤ 5 ∧ a / 1000 % 10 ≤ 5 ∧ a / 100 % 10 ≤ 5 ∧ a / 10 % 10 ≤ 5 ∧ a % 10 ≤ 5) ∧ zLoop (pb_X2_bite_23 S a) zFuel (0, 10000, 0) = some (.inr (gHorn a))) ∨ ((5 < a / 10000 % 10 ∨ 5 < a / 1000 % 10 ∨ 5 < a / 100 % 10 ∨ 5 < a / 10 % 10 ∨ 5 < a % 10) ∧ zLoop (pb_X2_bite_23 S a) zFuel (0, 10000, 0) = some (.inl (-1, S))) := by
  rw [zF6]
  have s0 := b23 (S := S) (a := a) (v := 0) (b := 10000) (k := 0) (b' := 1000) (k' := 1) (v' := a / 10000 % 10) a0 a1 (by omega) (by omega) (by omega) (by omega) (by omega) (by omega) (by omega) (by omega) 999999
  have s1 := b23 (S := S) (a := a) (v := a / 10000 % 10) (b := 1000) (k := 1) (b' := 100) (k' := 2) a0 a1 (by omega) (by omega) (by omega) (by omega) (by omega) (by omega) (by omega) rfl 999998
  have s2 := b23 (S := S) (a := a) (v := 6 * (a / 10000 % 10) + a / 1000 % 10) (b := 100) (k := 2) (b' := 10) (k' := 3) a0 a1 (by omega) (by omega) (by omega) (by omega) (by omega) (by omega) (by omega) rfl 999997
  have s3 := b23 (S := S) (a := a) (v := 6 * (6 * (a / 10000 % 10) + a / 1000 % 10) + a / 100 % 10) (b := 10) (k := 3) (b' := 1) (k' := 4) a0 a1 (by omega) (by omega) (by omega) (by omega) (by omega) (by omega) (by omega) rfl 999996
  have s4 := b23 (S := S) (a := a) (v := 6 * (6 * (6 * (a / 10000 % 10) + a / 1000 % 10) + a / 100 % 10) + a / 10 % 10) (b := 1) (k := 4) (b' := 0) (k' := 5) a0 a1 (by omega) (by omega) (by omega) (by omega) (by omega) (by omega) (by omega) rfl 999995
  rw [Int.ediv_one] at s4
  have s5 := b23e (S := S) (a := a) (v := gHorn a) 999994
  by_cases h0 : a / 10000 % 10 ≤ 5
  · by_cases h1 : a / 1000 % 10 ≤ 5
    · by_cases h2 : a / 100 % 10 ≤ 5
      · by_cases h3 : a / 10 % 10 ≤ 5
        · by_cases h4 : a % 10 ≤ 5
          · exact Or.inl ⟨⟨h0, h1, h2, h3, h4⟩, ((s0.1 h0).trans ((s1.1 h1).trans ((s2.1 h2).trans ((s3.1 h3).trans ((s4.1 h4).trans s5)))))⟩
          · exact Or.inr ⟨by omega, (s0.1 h0).trans ((s1.1 h1).trans ((s2.1 h2).trans ((s3.1 h3).trans (s4.2 (by omega)))))⟩
        · exact Or.inr ⟨by omega, (s0.1 h0).trans ((s1.1 h1).trans ((s2.1 h2).trans (s3.2 (by omega))))⟩
      · exact Or.inr ⟨by omega, (s0.1 h0).trans ((s1.1 h1).trans (s2.2 (by omega)))⟩
    · exact Or.inr ⟨by omega, (s0.1 h0).trans (s1.2 (by omega))⟩
  · exact Or.inr ⟨by omega, s0.2 (by omega)⟩
theorem i19 {t r w : Int} (hw : p_X0_wideOf a r = some w) (r0 : 0 ≤ r) (r1 : r < 5) (F : Nat) : (w ≤ t → zLoop (pb_X0_isShape_19 a) (F + 1) (t, r) = zLoop (pb_X0_isShape_19 a) F (w, r + 1)) ∧ (t < w → zLoop (pb_X0_isShape_19 a) (F + 1) (t, r) = some (.inl 0)) := by
  have base : pb_X0_isShape_19 a (t, r) = if w ≤ t then p32 (r + 1) fun v8 => some (.inr (w, v8)) else some (.inl (.inl 0)) := by
    unfold pb_X0_isShape_19
    dsimp only
    rw [if_neg (by omega), hw]
    rfl
  refine ⟨fun h => zLoop_r ?_, fun h => zLoop_l ?_⟩
  · rw [base, if_pos h]
    unfold p32
    rw [if_pos (by omega)]
  · rw [base, if_neg (by omega)]
theorem k_isShape0 (a : Int) : (p_X0_isShape a = some 1 ∧ (10000 ≤ a ∧ a ≤ 55555) ∧ a / 10000 % 10 ≤ 5 ∧ a / 1000 % 10 ≤ a / 10000 % 10 ∧ a / 100 % 10 ≤ a / 1000 % 10 ∧ a / 10 % 10 ≤ a / 100 % 10 ∧ a % 10 ≤ a / 10 % 10) ∨ (p_X0_isShape a = some 0 ∧ ¬ ((10000 ≤ a ∧ a ≤ 55555) ∧ a / 10000 % 10 ≤ 5 ∧ a / 1000 % 10 ≤ a / 10000 % 10 ∧ a / 100 % 10 ≤ a / 1000 % 10 ∧ a / 10 % 10 ≤ a / 100 % 10 ∧ a % 10 ≤ a / 10 % 10)) := by
  by_cases hr : 10000 ≤ a ∧ a ≤ 55555
  · obtain ⟨w0, w1, w2, w3, w4⟩ := k_wide (a := a) (by omega)
    have un : ∀ x, zLoop (pb_X0_isShape_19 a) (999994 + 6) (5, 0) = some x → p_X0_isShape a = zEx (some x) fun _ => some 1 := fun x hx => by
      unfold p_X0_isShape
      rw [k_in, if_pos hr]
      dsimp only [Option.bind_some]
      rw [if_neg (by omega), zF6, hx]
    have s0 := i19 (t := 5) w0 (by omega) (by omega) 999999
    have s1 := i19 (t := a / 10000 % 10) w1 (by omega) (by omega) 999998
    have s2 := i19 (t := a / 1000 % 10) w2 (by omega) (by omega) 999997
    have s3 := i19 (t := a / 100 % 10) w3 (by omega) (by omega) 999996
    have s4 := i19 (t := a / 10 % 10) w4 (by omega) (by omega) 999995
    have s5 : zLoop (pb_X0_isShape_19 a) (999994 + 1) (a % 10, 4 + 1) = some (.inr ()) := zLoop_l rfl
    by_cases h0 : a / 10000 % 10 ≤ 5
    · by_cases h1 : a / 1000 % 10 ≤ a / 10000 % 10
      · by_cases h2 : a / 100 % 10 ≤ a / 1000 % 10
        · by_cases h3 : a / 10 % 10 ≤ a / 100 % 10
          · by_cases h4 : a % 10 ≤ a / 10 % 10
            · exact Or.inl ⟨un _ ((s0.1 h0).trans ((s1.1 h1).trans ((s2.1 h2).trans ((s3.1 h3).trans ((s4.1 h4).trans s5))))), hr, h0, h1, h2, h3, h4⟩
            · exact Or.inr ⟨un _ ((s0.1 h0).trans ((s1.1 h1).trans ((s2.1 h2).trans ((s3.1 h3).trans (s4.2 (by omega)))))), fun x => h4 x.2.2.2.2.2⟩
          · exact Or.inr ⟨un _ ((s0.1 h0).trans ((s1.1 h1).trans ((s2.1 h2).trans (s3.2 (by omega))))), fun x => h3 x.2.2.2.2.1⟩
        · exact Or.inr ⟨un _ ((s0.1 h0).trans ((s1.1 h1).trans (s2.2 (by omega)))), fun x => h2 x.2.2.2.1⟩
      · exact Or.inr ⟨un _ ((s0.1 h0).trans (s1.2 (by omega))), fun x => h1 x.2.2.1⟩
    · exact Or.inr ⟨un _ (s0.2 (by omega)), fun x => h0 x.2.1⟩
  · refine Or.inr ⟨?_, fun x => hr x.1⟩
    unfold p_X0_isShape
    rw [k_in, if_neg hr]; rfl
set_option maxHeartbeats 1000000 in
theorem q_bite (h : pRel W S T) (hm : gMem S) (a b : Int) : pw (p_X0_bite S a b) (fun z => pw (p_X2_bite T a b) (fun t => z.1 = t.1 ∧ pRel W z.2 t.2 ∧ gMem z.2)) := by
  -- both answer none
  have none2 : p_X0_isShape a = some 0 → (p_X2_bite T a b = some (-1, T) ∨ ∃ U, p_X2_bite T a b = some (-1, U) ∧ ∀ c, c ≠ 15 → U c = T c) → pw (p_X0_bite S a b) (fun z => pw (p_X2_bite T a b) (fun t => z.1 = t.1 ∧ pRel W z.2 t.2 ∧ gMem z.2)) := fun e1 e2 => by
    have c1 : p_X0_bite S a b = some (-1, S) := by
      unfold p_X0_bite
      rw [e1]; rfl
    rcases e2 with e2 | ⟨U, e2, hU⟩
    · exact ⟨_, c1, _, e2, rfl, h, hm⟩
    · exact ⟨_, c1, _, e2, rfl, pRel_g h (fun _ _ => rfl) hU, hm⟩
  by_cases hr : 0 ≤ a ∧ a ≤ 55555
  · have hin : p_X2_isIn a 0 55555 = some 1 := by rw [k_isIn, if_pos hr]
    have mb : ∀ x, zLoop (pb_X2_bite_23 T a) zFuel (0, 10000, 0) = some x → p_X2_bite T a b = zEx (σ := Int) (some x) fun v3 => (p_X2_isShape v3).bind fun v13 => if v13 = 0 then (some (((-1), T))) else ((p_X2_layWins T v3).bind fun S14 => (p_X2_biteOf S14 v3).bind fun v15 => if v15 = (-1) then (some (((-1), S14))) else (if b = 0 then (zlt (prm v15 5) fun x1 => some ((x1, S14))) else (zlt (pdv v15 5) fun x2 => some ((x2, S14))))) := fun x hx => by
      unfold p_X2_bite
      rw [hin, hx]
      dsimp only [Option.bind_some]
      rw [if_neg (by omega)]
    rcases k_horn (S := T) hr.1 hr.2 with ⟨⟨d0, d1, d2, d3, d4⟩, hh⟩ | ⟨hd, hh⟩
    · have mb := mb _ hh
      have hb0 : 0 ≤ gHorn a ∧ gHorn a < 7776 := by
        unfold gHorn
        omega
      rcases k_isShape0 a with ⟨e1, hs⟩ | ⟨e1, hs⟩
      · -- a shape
        have hmem : a ∈ gSh := gSh_of hr.1 hr.2 hs.2.1 hs.2.2.1 hs.2.2.2.1 hs.2.2.2.2.1 hs.2.2.2.2.2
        have heq : gE a = gHorn a := of_decide_eq_true (List.all_eq_true.mp gH_all a hmem)
        have he := g6_of hmem
        have h0 : gE a ≠ 0 := by rw [heq]; unfold gHorn; omega
        obtain ⟨x, Y, y1, y2, y3, y4⟩ := k_bite hmem hm
        obtain ⟨U, u1, u2, u3⟩ := k_layWins (T := T) he h0
        have hrel : pRel W Y U := pRel_g h y2 u2
        have mb2 : ∀ v, p_X2_biteOf U (gE a) = some v → p_X2_bite T a b = if v = (-1) then (some (((-1), U))) else (if b = 0 then (zlt (prm v 5) fun x1 => some ((x1, U))) else (zlt (pdv v 5) fun x2 => some ((x2, U)))) := fun v hv => by
          rw [mb, ← heq]
          unfold zEx
          dsimp only [Option.bind_some]
          rw [(gS_i he).2.1]
          dsimp only [Option.bind_some]
          rw [if_neg (by omega), u1]
          dsimp only [Option.bind_some]
          rw [hv]
          rfl
        have cb : p_X0_bite S a b = if x = (-1) then (some (((-1), Y))) else (if b = 0 then (zlt (prm x 10) fun x1 => some ((x1, Y))) else (zlt (pdv x 10) fun x2 => some ((x2, Y)))) := by
          unfold p_X0_bite
          rw [e1]
          dsimp only [Option.bind_some]
          rw [if_neg (by omega), y1]
          rfl
        rcases y4 with ⟨r, c, q1, q2⟩ | ⟨q1, q2⟩
        · rcases k_bite2 (T := U) he h0 u3 with ⟨r', c', b1, b2⟩ | ⟨b1, b2⟩
          · obtain ⟨hr1, hc1⟩ := gFi_u q2 b2
            subst hr1 hc1
            have hq1 := q2.1
            have hq2 := q2.2.1
            have hq3 := ((gS_i he).2.2 r hq1.1 hq1.2).1
            have mb2 := mb2 _ b1
            rw [if_neg (by omega)] at mb2 cb
            dsimp only [zlt] at mb2 cb
            by_cases hb : b = 0
            · rw [if_pos hb, prm_n (by omega)] at mb2 cb
              refine ⟨_, cb, _, mb2, ?_, hrel, y3⟩
              dsimp only
              omega
            · rw [if_neg hb, pdv_n (by omega)] at mb2 cb
              refine ⟨_, cb, _, mb2, ?_, hrel, y3⟩
              dsimp only
              omega
          · have := gFi_w he h0 q2
            rw [gNo_w he h0 b2] at this; cases this
        · rcases k_bite2 (T := U) he h0 u3 with ⟨r', c', b1, b2⟩ | ⟨b1, b2⟩
          · have := gFi_w he h0 b2
            rw [gNo_w he h0 q2] at this; cases this
          · have mb2 := mb2 _ b1
            rw [if_pos rfl] at mb2
            rw [if_pos q1] at cb
            exact ⟨_, cb, _, mb2, rfl, hrel, y3⟩
      · refine none2 e1 ?_
        rcases gF_i hb0.1 hb0.2 with hz | hz
        · refine Or.inl ?_
          rw [mb]
          unfold zEx
          dsimp only [Option.bind_some]
          rw [hz]; rfl
        · have hdec := of_decide_eq_true (List.all_eq_true.mp g6_dec _ hz)
          have hS := (gS_i hz).2.2
          obtain ⟨p0, p1, p2, p3, p4⟩ := k_rowOf hb0.1
          have g0 := (hS 0 (by omega) (by omega)).1.1
          have g1 := (hS 1 (by omega) (by omega)).1.1
          have g2 := (hS 2 (by omega) (by omega)).1.1
          have g3 := (hS 3 (by omega) (by omega)).1.1
          have g4 := (hS 4 (by omega) (by omega)).1.1
          rw [p0] at g0
          rw [p1] at g1
          rw [p2] at g2
          rw [p3] at g3
          rw [p4] at g4
          have g0 := Option.some.inj g0
          have g1 := Option.some.inj g1
          have g2 := Option.some.inj g2
          have g3 := Option.some.inj g3
          have g4 := Option.some.inj g4
          have h00 : gHorn a = 0 := gH0 hr.1 hr.2 ⟨d0, d1, d2, d3, d4⟩ hs (by rw [g0, g1]; exact hdec.1) (by rw [g1, g2]; exact hdec.2.1) (by rw [g2, g3]; exact hdec.2.2.1) (by rw [g3, g4]; exact hdec.2.2.2)
          refine Or.inr ?_
          have z1 : pnz 1 = 1 := by decide
          refine ⟨pup T 15 0 1, ?_, fun c hc => pup_r hc⟩
          rw [mb, h00]
          have hsh : p_X2_isShape 0 = some 1 := by rw [h00] at hz; exact (gS_i hz).2.1
          have hlay : p_X2_layWins T 0 = some (pup T 15 0 1) := by
            unfold p_X2_layWins
            dsimp only [zlt]
            rw [z1]
            have pa : past T 15 7776 0 1 = some (pup T 15 0 1) := if_pos (by omega)
            rw [pa]
            dsimp only [Option.bind_some]
            rw [zF6, zLoop_l (r := pup T 15 0 1) (by unfold pb_X2_layWins_9; dsimp only; rw [if_pos (by omega)])]
            rfl
          have hbit : p_X2_biteOf (pup T 15 0 1) 0 = some (-1) := by
            obtain ⟨r0, r1, r2, r3, r4⟩ := k_rowOf (a := 0) (by omega)
            have lp : ∀ r : Int, p_X2_rowOf 0 r = some 0 → ∀ F, zLoop (pb_X2_biteOf_9 (pup T 15 0 1) 0 r) (F + 1) 0 = some (.inr ()) := fun r hr F => zLoop_l (by
              unfold pb_X2_biteOf_9
              rw [hr]; rfl)
            have st : ∀ r : Int, p_X2_rowOf 0 r = some 0 → 0 ≤ r → r < 5 → ∀ F, zLoop (pb_X2_biteOf_2 (pup T 15 0 1) 0) (F + 1) r = zLoop (pb_X2_biteOf_2 (pup T 15 0 1) 0) F (r + 1) := fun r hr r0 r5 F => zLoop_r (by
              unfold pb_X2_biteOf_2
              rw [if_neg (by omega), zF6, lp r hr]
              unfold zEx p32
              dsimp only [Option.bind_some]
              rw [if_pos (by omega)])
            have en : ∀ F, zLoop (pb_X2_biteOf_2 (pup T 15 0 1) 0) (F + 1) (4 + 1) = some (.inr ()) := fun F => zLoop_l rfl
            unfold p_X2_biteOf
            have : zLoop (pb_X2_biteOf_2 (pup T 15 0 1) 0) zFuel 0 = some (.inr ()) := by
              rw [zF6]
              exact (st 0 r0 (by omega) (by omega) _).trans ((st 1 r1 (by omega) (by omega) _).trans ((st 2 r2 (by omega) (by omega) _).trans ((st 3 r3 (by omega) (by omega) _).trans ((st 4 r4 (by omega) (by omega) _).trans (en _)))))
            rw [this]; rfl
          unfold zEx
          dsimp only [Option.bind_some]
          rw [hsh]
          dsimp only [Option.bind_some]
          rw [if_neg (by omega), hlay]
          dsimp only [Option.bind_some]
          rw [hbit]
          rfl
    · refine none2 ?_ (Or.inl ?_)
      · rcases k_isShape0 a with ⟨e1, hs⟩ | ⟨e1, hs⟩
        · exfalso; omega
        · exact e1
      · rw [mb _ hh]; rfl
  · refine none2 ?_ (Or.inl ?_)
    · rcases k_isShape0 a with ⟨e1, hs⟩ | ⟨e1, hs⟩
      · exact absurd hs.1 (by omega)
      · exact e1
    · unfold p_X2_bite
      rw [k_isIn, if_neg hr]; rfl
end
