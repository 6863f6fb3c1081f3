/-! PURE, flights: the cases -/
set_option maxRecDepth 100000
section
variable {W : pW} {S T : zP}
theorem pFf.tr {S0 T0 S1 T1 S2 T2 : zP} (h : pFf S0 T0 S1 T1) (k : pFf S1 T1 S2 T2) : pFf S0 T0 S2 T2 :=
  ⟨fun c hc => (k.1 c hc).trans (h.1 c hc), fun i hi => (k.2.1 i hi).trans (h.2.1 i hi), fun c hc hd => (k.2.2.1 c hc hd).trans (h.2.2.1 c hc hd), fun i hi => (k.2.2.2 i hi).trans (h.2.2.2 i hi)⟩
theorem pFf.rf : pFf S T S T := ⟨fun _ _ => rfl, fun _ _ => rfl, fun _ _ _ => rfl, fun _ _ => rfl⟩
theorem k_isFlight (c w : Int) : ∃ b, p_X0_isFlight c w = some b ∧ p_X2_isFlight c w = some b ∧ ((b = 0) ∨ (b = 1 ∧ (0 ≤ c ∧ c ≤ 35) ∧ 0 ≤ w ∧ w ≤ 3)) := by
  unfold p_X0_isFlight p_X2_isFlight
  rw [k_in, k_isIn]
  by_cases h : 0 ≤ c ∧ c ≤ 35
  · rw [if_pos h]
    by_cases k : 0 ≤ w ∧ w ≤ 3
    · refine ⟨1, ?_, ?_, Or.inr ⟨rfl, h, k⟩⟩
      · dsimp only [Option.bind_some]
        rw [if_neg (by omega), k_in, if_pos k]; rfl
      · dsimp only [Option.bind_some]
        rw [if_neg (by omega), k_isIn, if_pos k]; rfl
    · refine ⟨0, ?_, ?_, Or.inl rfl⟩
      · dsimp only [Option.bind_some]
        rw [if_neg (by omega), k_in, if_neg k]; rfl
      · dsimp only [Option.bind_some]
        rw [if_neg (by omega), k_isIn, if_neg k]; rfl
  · rw [if_neg h]
    exact ⟨0, rfl, rfl, Or.inl rfl⟩
theorem q_flight (h : pRel W S T) (c w a : Int) : pw (p_X0_flight S c w a) (fun z => pw (p_X2_flight T c w a) (fun t => z.1 = t.1 ∧ pRel W z.2 t.2)) := by
  have hed := h.1.2.2.2.2.2.2.1
  obtain ⟨b, e1, e2, hb⟩ := k_isFlight c w
  unfold p_X0_flight p_X2_flight
  rw [e1, e2]
  rcases hb with hb | ⟨hb, ⟨c0, c1⟩, w0, w1⟩
  · subst hb
    exact pw2_some ⟨rfl, h⟩
  · subst hb
    obtain ⟨⟨v, z⟩, ez, ⟨v', u⟩, eu, hv, hv2, he, hf⟩ := k_fly hed c0 c1 w0 w1
    dsimp only at hv hv2 he hf
    have hz : pRel W z T := pRel_f h (T := T) ⟨hf.1, hf.2.1, fun _ _ _ => rfl, fun _ _ => rfl⟩
    have hr : pRel W z u := pRel_f h hf
    subst hv
    show pw ((p_X0_flies S c w).bind _) _
    rw [ez]
    by_cases ha : 0 ≤ a ∧ a ≤ 3
    · have ei : p_X2_isIn a 0 3 = some 1 := by rw [k_isIn, if_pos ha]
      have em : ∀ K : Int → Option (Int × zP), ((some (1 : Int)).bind fun v1 => if v1 = 0 then (some (((-1 : Int), T))) else ((p_X2_isIn a 0 3).bind fun v2 => if v2 = 0 then (some (((-1), T))) else ((p_X2_isFlown T c w).bind fun (v3, S4) => if v3 = 0 then (some (((-1), S4))) else (if a = 0 then (zlt (S4 0 32) fun v8 => some ((v8, S4))) else (if a = 1 then (zlt (S4 0 33) fun v7 => some ((v7, S4))) else (if a = 2 then (zlt (S4 0 34) fun v6 => some ((v6, S4))) else (zlt (S4 0 35) fun v5 => some ((v5, S4))))))))) = (if v = 0 then (some (((-1), u))) else (if a = 0 then (some ((u 0 32, u))) else (if a = 1 then (some ((u 0 33, u))) else (if a = 2 then (some ((u 0 34, u))) else (some ((u 0 35, u))))))) := by
        intro _
        dsimp only [Option.bind_some]
        rw [if_neg (by omega), ei]
        dsimp only [Option.bind_some]
        rw [if_neg (by omega), eu]
        rfl
      rw [em (fun _ => none)]
      clear em
      dsimp only [Option.bind_some]
      by_cases v0 : v = 0
      · rw [if_pos v0, if_pos v0]; exact pw2_some ⟨rfl, hr⟩
      · rw [if_neg v0, if_neg v0]
        obtain ⟨g1, g2, g3, g4⟩ := he (by omega)
        dsimp only [zlt]
        by_cases a0 : a = 0
        · rw [if_pos a0, if_pos a0]; exact pw2_some ⟨g1, hr⟩
        rw [if_neg a0, if_neg a0]
        by_cases a1 : a = 1
        · rw [if_pos a1, if_pos a1]; exact pw2_some ⟨g2, hr⟩
        rw [if_neg a1, if_neg a1]
        by_cases a2 : a = 2
        · rw [if_pos a2, if_pos a2]; exact pw2_some ⟨g3, hr⟩
        rw [if_neg a2, if_neg a2, if_pos (by omega)]
        exact pw2_some ⟨g4, hr⟩
    · have ei : p_X2_isIn a 0 3 = some 0 := by rw [k_isIn, if_neg ha]
      show pw _ (fun z => pw ((p_X2_isIn a 0 3).bind _) _)
      rw [ei]
      refine ⟨(-1, z), ?_, (-1, T), rfl, rfl, hz⟩
      dsimp only [Option.bind_some, zlt]
      by_cases v0 : v = 0
      · rw [if_pos v0]
      · rw [if_neg v0, if_neg (by omega), if_neg (by omega), if_neg (by omega), if_neg (by omega)]
theorem zLoop_r {σ ρ : Type} {b : σ → Option (ρ ⊕ σ)} {n : Nat} {s t : σ} (h : b s = some (.inr t)) : zLoop b (n + 1) s = zLoop b n t := by
  rw [zLoop_s, h]; rfl
theorem zLoop_l {σ ρ : Type} {b : σ → Option (ρ ⊕ σ)} {n : Nat} {s : σ} {r : ρ} (h : b s = some (.inl r)) : zLoop b (n + 1) s = some r := by
  rw [zLoop_s, h]; rfl
set_option maxHeartbeats 1000000 in
theorem k_come (hed : pHed (S 5) (T 1)) (a1 a2 : Int) {w : Int} (w0 : 0 ≤ w) (w1 : w ≤ 3) : ∀ (j n m : Nat) (v : Int) (S' T' : zP), j = (36 - v).toNat → j < n → j ≤ m → 0 ≤ v → v ≤ 36 → pFf S T S' T' →
    (∃ r z u, zLoop (pb_X0_comes_20 a1 a2 w) n (v, S') = some (.inl (.inl (.inl (r, z)))) ∧ zLoop (pb_X2_comes_12 a1 a2) m (36 * w + v, T') = some (.inl (r, u)) ∧ pFf S T z u) ∨
    ∃ z u, zLoop (pb_X0_comes_20 a1 a2 w) n (v, S') = some (.inr z) ∧ zLoop (pb_X2_comes_12 a1 a2) m (36 * w + v, T') = zLoop (pb_X2_comes_12 a1 a2) (m - j) (36 * w + 36, u) ∧ pFf S T z u
  | _, 0, _, _, _, _, _, h, _, _, _, _ => absurd h (Nat.not_lt_zero _)
  | 0, n + 1, m, v, S', T', hj, _, _, v0, v1, hf => by
    have hv : v = 36 := by omega
    refine Or.inr ⟨S', T', zLoop_l ?_, by rw [hv]; rfl, hf⟩
    unfold pb_X0_comes_20
    dsimp only
    rw [if_pos (by omega)]
  | j + 1, n + 1, 0, _, _, _, _, _, h, _, _, _ => absurd h (by omega)
  | j + 1, n + 1, m + 1, v, S', T', hj, hn, hm, v0, v1, hf => by
    have hv : v ≤ 35 := by omega
    have hed' : pHed (S' 5) (T' 1) := by rw [hf.1 5 (by omega), hf.2.2.1 1 (by omega) (by omega)]; exact hed
    obtain ⟨-, -, f3, -, f5⟩ := fl_all v0 hv w0 w1
    obtain ⟨bb, ebb, hbb⟩ : ∃ b, p_X2_isInwards v w = some b ∧ (b = 0 ∨ b = 1) := by
      rcases f5 with x | x
      · exact ⟨0, x, Or.inl rfl⟩
      · exact ⟨1, x, Or.inr rfl⟩
    have f3' := f3
    rw [ebb] at f3'
    have d1 : prm (36 * w + v) 36 = v := by rw [prm_n (by omega)]; omega
    have d2 : pdv (36 * w + v) 36 = w := by rw [pdv_n (by omega)]; omega
    -- on
    have on : ∀ S1 T1, pb_X0_comes_20 a1 a2 w (v, S') = some (.inr (v + 1, S1)) → pb_X2_comes_12 a1 a2 (36 * w + v, T') = some (.inr (36 * w + v + 1, T1)) → pFf S T S1 T1 → _ := fun S1 T1 x1 x2 hf1 => by
      have := k_come hed a1 a2 w0 w1 j n m (v + 1) S1 T1 (by omega) (by omega) (by omega) (by omega) (by omega) hf1
      rw [← zLoop_r x1, show 36 * w + (v + 1) = 36 * w + v + 1 by omega, ← zLoop_r x2, show m - j = m + 1 - (j + 1) by omega] at this
      exact this
    have c1 : pb_X0_comes_20 a1 a2 w (v, S') = if bb = 0 then (p32 (v + 1) fun v13 => some (.inr (v13, S'))) else ((p_X0_flies S' v w).bind fun (v14, S15) => if v14 = 0 then (p32 (v + 1) fun v16 => some (.inr (v16, S15))) else (if S15 0 14 = a1 then (if S15 0 16 = a2 then (p32 ((36 * w) + v) fun x2 => some (.inl (.inl (.inl (.inl (x2, S15)))))) else (p32 (v + 1) fun v20 => some (.inr (v20, S15)))) else (p32 (v + 1) fun v18 => some (.inr (v18, S15))))) := by
      unfold pb_X0_comes_20
      dsimp only [zlt]
      rw [if_neg (by omega), ← f3']; rfl
    have c2 : pb_X2_comes_12 a1 a2 (36 * w + v, T') = if bb = 0 then (p32 (36 * w + v + 1) fun v8 => some (.inr (v8, T'))) else ((p_X2_isFlown T' v w).bind fun (v9, S10) => if v9 = 0 then (p32 (36 * w + v + 1) fun v11 => some (.inr (v11, S10))) else (if S10 0 33 = a1 then (if S10 0 35 = a2 then (some (.inl (.inl (36 * w + v, S10)))) else (p32 (36 * w + v + 1) fun v15 => some (.inr (v15, S10)))) else (p32 (36 * w + v + 1) fun v13 => some (.inr (v13, S10))))) := by
      unfold pb_X2_comes_12
      dsimp only [zlt]
      rw [if_neg (by omega), d1, d2, ebb]; rfl
    have p1 : ∀ {α : Type} (K : Int → Option α), p32 (v + 1) K = K (v + 1) := fun K => if_pos (by omega)
    have p2 : ∀ {α : Type} (K : Int → Option α), p32 (36 * w + v + 1) K = K (36 * w + v + 1) := fun K => if_pos (by omega)
    have p3 : ∀ {α : Type} (K : Int → Option α), p32 (36 * w + v) K = K (36 * w + v) := fun K => if_pos (by omega)
    rw [p1] at c1
    rw [p2] at c2
    rcases hbb with hb | hb
    · rw [if_pos hb] at c1 c2
      exact on _ _ c1 c2 hf
    · rw [if_neg (by omega)] at c1 c2
      obtain ⟨⟨x, z⟩, ez, ⟨x', u⟩, eu, hx, hx2, he, hg⟩ := k_fly hed' v0 hv w0 w1
      dsimp only at hx hx2 he hg
      subst hx
      rw [ez] at c1
      rw [eu] at c2
      dsimp only [Option.bind_some] at c1 c2
      have hfg := hf.tr hg
      simp only [p1, p3] at c1
      simp only [p2] at c2
      rcases hx2 with x0 | x1
      · rw [if_pos x0] at c1 c2
        exact on _ _ c1 c2 hfg
      · rw [if_neg (by omega)] at c1 c2
        obtain ⟨-, g2, -, g4⟩ := he x1
        rw [g2, g4] at c1
        by_cases h1 : u 0 33 = a1
        · rw [if_pos h1] at c1 c2
          by_cases h2 : u 0 35 = a2
          · rw [if_pos h2] at c1 c2
            exact Or.inl ⟨_, _, _, zLoop_l c1, zLoop_l c2, hfg⟩
          · rw [if_neg h2] at c1 c2
            exact on _ _ c1 c2 hfg
        · rw [if_neg h1] at c1 c2
          exact on _ _ c1 c2 hfg
theorem k_comes (hed : pHed (S 5) (T 1)) (a1 a2 : Int) : ∀ (j n m : Nat) (w : Int) (S' T' : zP), j = (4 - w).toNat → j < n → 36 * j < m → 0 ≤ w → w ≤ 4 → pFf S T S' T' →
    pw (zLoop (pb_X0_comes_12 a1 a2) n (w, S')) (fun x => pw (zLoop (pb_X2_comes_12 a1 a2) m (36 * w, T')) (fun y => pS2 (fun r t => r.1 = t.1 ∧ pFf S T r.2 t.2) (fun s t => pFf S T s t) x y))
  | _, 0, _, _, _, _, _, h, _, _, _, _ => absurd h (Nat.not_lt_zero _)
  | _, _, 0, _, _, _, _, _, h, _, _, _ => absurd h (Nat.not_lt_zero _)
  | 0, n + 1, m + 1, w, S', T', hj, _, _, v0, v1, hf => by
    have hv : w = 4 := by omega
    refine ⟨.inr S', zLoop_l ?_, .inr T', zLoop_l ?_, hf⟩
    · unfold pb_X0_comes_12
      dsimp only
      rw [if_pos (by omega)]
    · unfold pb_X2_comes_12
      dsimp only
      rw [if_pos (by omega)]
  | j + 1, n + 1, m + 1, w, S', T', hj, hn, hm, v0, v1, hf => by
    have hw : w ≤ 3 := by omega
    have e1 : pb_X0_comes_12 a1 a2 (w, S') = zEx (σ := zP) (zLoop (pb_X0_comes_20 a1 a2 w) zFuel (0, S')) fun S8 => p32 (w + 1) fun v21 => some (.inr (v21, S8)) := by
      unfold pb_X0_comes_12
      dsimp only
      rw [if_neg (by omega)]
    have p1 : ∀ {α : Type} (K : Int → Option α), p32 (w + 1) K = K (w + 1) := fun K => if_pos (by omega)
    rcases k_come hed a1 a2 v0 hw 36 zFuel (m + 1) 0 S' T' (by omega) (by unfold zFuel; omega) (by omega) (by omega) (by omega) hf with ⟨r, z, u, x1, x2, hg⟩ | ⟨z, u, x1, x2, hg⟩
    · rw [show 36 * w + 0 = 36 * w by omega] at x2
      rw [x1] at e1
      exact ⟨.inl (r, z), zLoop_l e1, .inl (r, u), x2, rfl, hg⟩
    · rw [show 36 * w + 0 = 36 * w by omega, show 36 * w + 36 = 36 * (w + 1) by omega] at x2
      rw [x1] at e1
      have e1 : pb_X0_comes_12 a1 a2 (w, S') = some (.inr (w + 1, z)) := e1.trans (by
        unfold zEx
        dsimp only [Option.bind_some]
        rw [p1])
      rw [zLoop_r e1, x2]
      exact k_comes hed a1 a2 j n (m + 1 - 36) (w + 1) z u (by omega) (by omega) (by omega) (by omega) (by omega) hg
theorem q_comes (h : pRel W S T) (c w : Int) : pw (p_X0_comes S c w) (fun z => pw (p_X2_comes T c w) (fun t => z.1 = t.1 ∧ pRel W z.2 t.2)) := by
  have hed := h.1.2.2.2.2.2.2.1
  obtain ⟨b, e1, e2, hb⟩ := k_isFlight c w
  unfold p_X0_comes p_X2_comes
  rw [e1, e2]
  rcases hb with hb | ⟨hb, -⟩
  · subst hb
    exact pw2_some ⟨rfl, h⟩
  · subst hb
    obtain ⟨x, ex, y, ey, q⟩ := k_comes (S := S) (T := T) hed c w 4 zFuel zFuel 0 S T (by omega) (by unfold zFuel; omega) (by unfold zFuel; omega) (by omega) (by omega) pFf.rf
    dsimp only [Option.bind_some]
    rw [if_neg (by omega), if_neg (by omega), ex]
    rw [show (36 : Int) * 0 = 0 by omega] at ey
    rw [ey]
    cases x with
    | inl x => cases y with
      | inl y => exact pw2_some ⟨q.1, pRel_f h q.2⟩
      | inr y => exact q.elim
    | inr x => cases y with
      | inl y => exact q.elim
      | inr y => exact pw2_some ⟨rfl, pRel_f h q⟩
end
