/-! PURE, seatings: the model; the cases -/
set_option maxRecDepth 100000
theorem lrOne_i {n l u s l' u' k : Int} (h : lrOne n l u s = some (l', u', k)) : ∃ f v, (-2147483648 ≤ n - 1 - s ∧ n - 1 - s ≤ 2147483647) ∧ p_X2_factorial (n - 1 - s) = some f ∧ pdiv l f = some v ∧ pmod l f = some l' ∧ zLoop (pb_X2_layRow_63 u) zFuel (v, 0) = some k ∧ u' = por u (pshl 1 k) := by
  unfold lrOne at h
  by_cases hc : -2147483648 ≤ n - 1 - s ∧ n - 1 - s ≤ 2147483647
  · have p : ∀ {α : Type} (K : Int → Option α), p32 (n - 1 - s) K = K (n - 1 - s) := fun K => if_pos hc
    simp only [p] at h
    cases e1 : p_X2_factorial (n - 1 - s) with
    | none => rw [e1] at h; cases h
    | some f =>
      rw [e1] at h
      dsimp only [Option.bind_some] at h
      cases e2 : pdiv l f with
      | none => rw [e2] at h; cases h
      | some v =>
        rw [e2] at h
        dsimp only [Option.bind_some] at h
        cases e3 : pmod l f with
        | none => rw [e3] at h; cases h
        | some w =>
          rw [e3] at h
          dsimp only [Option.bind_some] at h
          cases e4 : zLoop (pb_X2_layRow_63 u) zFuel (v, 0) with
          | none => rw [e4] at h; cases h
          | some x =>
            rw [e4] at h
            cases h
            exact ⟨f, v, hc, rfl, e2, e3, e4, rfl⟩
  · unfold p32 at h
    rw [if_neg hc] at h
    cases h
section
variable {W : pW} {S T S0 T0 : zP} {n : Nat} {q : sSt}
theorem k_row1 {l u s l' u' k : Int} (h : lrOne (n : Int) l u s = some (l', u', k)) (hT : T 1 0 = (n : Int)) (n6 : n ≤ 6) (s0 : 0 ≤ s) (s1 : s < (n : Int)) : pb_X2_layRow_14 (l, u, s, T) = some (.inr (l', u', s + 1, pup T 10 s k)) := by
  obtain ⟨f, v, -, e1, e2, e3, e4, e5⟩ := lrOne_i h
  refine pw_to ?_
  unfold pb_X2_layRow_14
  dsimp only
  refine pw_ald (by omega) (by omega) ?_
  rw [hT]
  refine pw_ite (fun x => absurd x (by omega)) (fun _ => pw_ald (by omega) (by omega) ?_)
  rw [hT]
  refine pw_p32 (by omega) (by omega) (pw_beq e1 (pw_beq e2 (pw_ald (by omega) (by omega) ?_)))
  rw [hT]
  refine pw_p32 (by omega) (by omega) (pw_beq e1 (pw_beq e3 (pw_beq e4 (pw_zlt (pw_zlt (pw_ast (by omega) (by omega) (pw_p32 (by omega) (by omega) (pw_some ?_))))))))
  rw [e5]
theorem k_row (n6 : n ≤ 6) : ∀ (j F : Nat) (l u s : Int) (r : List Int) (T : zP), T 1 0 = (n : Int) → 0 ≤ s → s + (j : Int) = (n : Int) → lrGo (n : Int) j l u s = some r → j < F → ∃ U, zLoop pb_X2_layRow_14 F (l, u, s, T) = some U ∧ (∀ c, c ≠ 10 → U c = T c) ∧ (∀ i, i < s → U 10 i = T 10 i) ∧ ∀ i, 0 ≤ i → i < (j : Int) → U 10 (s + i) = sG r i
  | _, 0, _, _, _, _, _, _, _, _, _, h => absurd h (Nat.not_lt_zero _)
  | 0, F + 1, l, u, s, r, T, hT, s0, hs, _, _ => by
    refine ⟨T, zLoop_l ?_, fun _ _ => rfl, fun _ _ => rfl, fun i a b => absurd b (by omega)⟩
    unfold pb_X2_layRow_14
    dsimp only
    have e : pald T 1 1450 0 = some (n : Int) := by rw [← hT]; exact if_pos (by omega)
    rw [e]
    dsimp only [Option.bind_some]
    rw [if_pos (by omega)]
  | j + 1, F + 1, l, u, s, r, T, hT, s0, hs, hr, hF => by
    unfold lrGo at hr
    cases e1 : lrOne (n : Int) l u s with
    | none => rw [e1] at hr; cases hr
    | some x =>
      obtain ⟨l', u', k⟩ := x
      rw [e1] at hr
      dsimp only at hr
      cases e2 : lrGo (n : Int) j l' u' (s + 1) with
      | none => rw [e2] at hr; cases hr
      | some r' =>
        rw [e2] at hr
        cases hr
        have b1 := k_row1 e1 hT n6 s0 (by omega)
        obtain ⟨U, h1, h2, h3, h4⟩ := k_row n6 j F l' u' (s + 1) r' (pup T 10 s k) ((pup_c (by omega)).trans hT) (by omega) (by omega) e2 (by omega)
        refine ⟨U, (zLoop_r b1).trans h1, fun c hc => (h2 c hc).trans (pup_r hc), fun i hi => ?_, fun i a b => ?_⟩
        · rw [h3 i (by omega), pup_k (by omega)]
        · by_cases hi : i = 0
          · subst hi
            rw [show s + 0 = s by omega, h3 s (by omega), pup_e rfl]; rfl
          · have := h4 (i - 1) (by omega) (by omega)
            rw [show s + 1 + (i - 1) = s + i by omega] at this
            rw [this]
            unfold sG
            rw [show i.toNat = (i - 1).toNat + 1 by omega, List.getD_cons_succ]
theorem k_layRow (hc : sChk n = true) (n1 : 1 ≤ n) (n6 : n ≤ 6) (hT : T 1 0 = (n : Int)) {i : Nat} {r : List Int} (hr : (sRows n)[i]? = some r) : ∃ U, p_X2_layRow T (i : Int) = some U ∧ (∀ c, c ≠ 10 → U c = T c) ∧ ∀ s, 0 ≤ s → s < (n : Int) → U 10 s = sG (0 :: r) s := by
  unfold sChk at hc
  simp only [Bool.and_eq_true, decide_eq_true_eq, List.all_eq_true, List.mem_range] at hc
  have hi : i < (sRows n).length := by
    rcases Nat.lt_or_ge i (sRows n).length with x | x
    · exact x
    · rw [List.getElem?_eq_none x] at hr; cases hr
  have h1 := hc.1.2 i hi
  rw [hr] at h1
  obtain ⟨U, e, u1, u2, u3⟩ := k_row n6 (n - 1) zFuel (i : Int) 1 1 r (pup T 10 0 0) ((pup_c (by omega)).trans hT) (by omega) (by omega) h1 (by unfold zFuel; omega)
  refine ⟨U, ?_, fun c hc => (u1 c hc).trans (pup_r hc), fun s a b => ?_⟩
  · unfold p_X2_layRow
    have e2 : past T 10 6 0 0 = some (pup T 10 0 0) := if_pos (by omega)
    rw [e2]
    dsimp only [Option.bind_some]
    rw [e]; rfl
  · by_cases hs : s = 0
    · subst hs
      rw [u2 0 (by omega), pup_e rfl]; rfl
    · have := u3 (s - 1) (by omega) (by omega)
      rw [show 1 + (s - 1) = s by omega] at this
      rw [this]
      unfold sG
      rw [show s.toNat = (s - 1).toNat + 1 by omega, List.getD_cons_succ]
def sRM (n : Nat) (T0 T : zP) (q : sSt) : Prop := (∀ c, c ≠ 0 → c ≠ 10 → c ≠ 11 → T c = T0 c) ∧ (∀ i, i < 28 ∨ 30 < i → T 0 i = T0 0 i) ∧ T 0 28 = q.1 ∧ T 0 30 = q.2.1 ∧ T 0 29 = q.2.2.1 ∧ ∀ s, 0 ≤ s → s < (n : Int) → T 11 s = sG q.2.2.2 s
theorem k_cpRow (n6 : n ≤ 6) (T : zP) (hT : T 1 0 = (n : Int)) : ∃ U, zLoop pb_X2_layBest_133 zFuel (0, T) = some U ∧ (∀ c, c ≠ 11 → U c = T c) ∧ ∀ s, 0 ≤ s → s < (n : Int) → U 11 s = T 10 s := by
  have main : pw (zLoop pb_X2_layBest_133 zFuel (0, T)) (fun U => (∀ c, c ≠ 11 → U c = T c) ∧ ∀ s, 0 ≤ s → s < (n : Int) → U 11 s = T 10 s) := by
    refine pw_lp (fun s => (0 ≤ s.1 ∧ s.1 ≤ (n : Int)) ∧ (∀ c, c ≠ 11 → s.2 c = T c) ∧ ∀ i, 0 ≤ i → i < s.1 → s.2 11 i = T 10 i) (fun s => ((n : Int) - s.1).toNat) ?_ ⟨by first | (dsimp only; omega) | omega, fun _ _ => rfl, fun k a b => absurd b (by dsimp only; omega)⟩ (by first | (dsimp only; omega) | omega)
    rintro ⟨i, U⟩ ⟨⟨i0, i1⟩, u1, u2⟩
    dsimp only at i0 i1 u1 u2
    have un : U 1 0 = (n : Int) := by rw [u1 1 (by omega)]; exact hT
    unfold pb_X2_layBest_133
    dsimp only
    by_cases hi : i = (n : Int)
    · repeat' (first | with_reducible refine pw_some ?_ | with_reducible refine pw_iteT ?_ | with_reducible refine pw_iteF ?_ | with_reducible refine pw_biteT ?_ | with_reducible refine pw_biteF ?_ | with_reducible refine pw_exiteT ?_ | with_reducible refine pw_exiteF ?_ | with_reducible refine pw_inr ?_ | with_reducible refine pw_inl ?_ | ((with_reducible refine pw_ite (fun _ => ?_) (fun _ => ?_)) <;> first | (exfalso; omega) | skip) | ((with_reducible refine pw_in (fun _ _ => ?_) (fun _ => ?_)) <;> first | (exfalso; omega) | skip) | ((with_reducible refine pw_isIn (fun _ _ => ?_) (fun _ => ?_)) <;> first | (exfalso; omega) | skip) | ((with_reducible refine pw_kin ?_ (fun _ _ => ?_) (fun _ => ?_)) ; (omega) <;> first | (exfalso; omega) | skip) | ((with_reducible refine pw_ckin ?_ (fun _ _ => ?_) (fun _ => ?_)); (omega) <;> first | (exfalso; omega) | skip) | ((with_reducible refine pw_many ?_); try simp (disch := omega) only [un, pup_x, pup_k, pup_c, pup_r]) | ((with_reducible refine pw_has0 ?_)) | ((with_reducible refine pw_has2 ?_)) | ((with_reducible refine pw_strapped ?_); try simp (disch := omega) only [un, pup_x, pup_k, pup_c, pup_r]) | ((with_reducible refine pw_ald ?_ ?_ ?_); omega; omega; try simp (disch := omega) only [un, pup_x, pup_k, pup_c, pup_r]) | ((with_reducible refine pw_ast ?_ ?_ ?_); omega; omega) | ((with_reducible refine pw_idx ?_ ?_ ?_); omega; omega) | ((with_reducible refine pw_cp ?_ ?_ ?_ ?_ ?_ ?_); omega; omega; omega; omega; omega) | ((with_reducible refine pw_p32 ?_ ?_ ?_); omega; omega) | ((with_reducible refine pw_p64 ?_ ?_ ?_); omega; omega) | ((with_reducible refine pw_zlt ?_); try simp (disch := omega) only [un, pup_x, pup_k, pup_c, pup_r]) | ((with_reducible refine pw_bo ?_ ?_); omega) | ((with_reducible refine pw_mod ?_ ?_ ?_); omega; omega) | ((with_reducible refine pw_div ?_ ?_ ?_); omega; omega) | ((with_reducible refine pw_bite (fun _ => ?_) (fun _ => ?_)) <;> first | (exfalso; omega) | skip) | ((with_reducible refine pw_bsome ?_)) | ((with_reducible refine pw_bzlt ?_)) | ((with_reducible refine pw_bp32 ?_ ?_ ?_); omega; omega) | ((with_reducible refine pw_bass ?_)) | ((with_reducible refine pw_bex ?_)) | ((with_reducible refine pw_exr ?_)) | ((with_reducible refine pw_exl ?_)) | ((with_reducible refine pw_exite (fun _ => ?_) (fun _ => ?_)) <;> first | (exfalso; omega) | skip) | ((with_reducible refine pw_exz ?_)) | ((with_reducible refine pw_exp ?_ ?_ ?_); omega; omega) | ((with_reducible refine pw_exb ?_)))
      exact ⟨u1, fun k a b => u2 k a (by omega)⟩
    · repeat' (first | with_reducible refine pw_some ?_ | with_reducible refine pw_iteT ?_ | with_reducible refine pw_iteF ?_ | with_reducible refine pw_biteT ?_ | with_reducible refine pw_biteF ?_ | with_reducible refine pw_exiteT ?_ | with_reducible refine pw_exiteF ?_ | with_reducible refine pw_inr ?_ | with_reducible refine pw_inl ?_ | ((with_reducible refine pw_ite (fun _ => ?_) (fun _ => ?_)) <;> first | (exfalso; omega) | skip) | ((with_reducible refine pw_in (fun _ _ => ?_) (fun _ => ?_)) <;> first | (exfalso; omega) | skip) | ((with_reducible refine pw_isIn (fun _ _ => ?_) (fun _ => ?_)) <;> first | (exfalso; omega) | skip) | ((with_reducible refine pw_kin ?_ (fun _ _ => ?_) (fun _ => ?_)) ; (omega) <;> first | (exfalso; omega) | skip) | ((with_reducible refine pw_ckin ?_ (fun _ _ => ?_) (fun _ => ?_)); (omega) <;> first | (exfalso; omega) | skip) | ((with_reducible refine pw_many ?_); try simp (disch := omega) only [un, pup_x, pup_k, pup_c, pup_r]) | ((with_reducible refine pw_has0 ?_)) | ((with_reducible refine pw_has2 ?_)) | ((with_reducible refine pw_strapped ?_); try simp (disch := omega) only [un, pup_x, pup_k, pup_c, pup_r]) | ((with_reducible refine pw_ald ?_ ?_ ?_); omega; omega; try simp (disch := omega) only [un, pup_x, pup_k, pup_c, pup_r]) | ((with_reducible refine pw_ast ?_ ?_ ?_); omega; omega) | ((with_reducible refine pw_idx ?_ ?_ ?_); omega; omega) | ((with_reducible refine pw_cp ?_ ?_ ?_ ?_ ?_ ?_); omega; omega; omega; omega; omega) | ((with_reducible refine pw_p32 ?_ ?_ ?_); omega; omega) | ((with_reducible refine pw_p64 ?_ ?_ ?_); omega; omega) | ((with_reducible refine pw_zlt ?_); try simp (disch := omega) only [un, pup_x, pup_k, pup_c, pup_r]) | ((with_reducible refine pw_bo ?_ ?_); omega) | ((with_reducible refine pw_mod ?_ ?_ ?_); omega; omega) | ((with_reducible refine pw_div ?_ ?_ ?_); omega; omega) | ((with_reducible refine pw_bite (fun _ => ?_) (fun _ => ?_)) <;> first | (exfalso; omega) | skip) | ((with_reducible refine pw_bsome ?_)) | ((with_reducible refine pw_bzlt ?_)) | ((with_reducible refine pw_bp32 ?_ ?_ ?_); omega; omega) | ((with_reducible refine pw_bass ?_)) | ((with_reducible refine pw_bex ?_)) | ((with_reducible refine pw_exr ?_)) | ((with_reducible refine pw_exl ?_)) | ((with_reducible refine pw_exite (fun _ => ?_) (fun _ => ?_)) <;> first | (exfalso; omega) | skip) | ((with_reducible refine pw_exz ?_)) | ((with_reducible refine pw_exp ?_ ?_ ?_); omega; omega) | ((with_reducible refine pw_exb ?_)))
      refine ⟨⟨by first | (dsimp only; omega) | omega, fun c hc => ?_, fun k a b => ?_⟩, by first | (dsimp only; omega) | omega⟩
      · dsimp only
        rw [pup_r hc]; exact u1 c hc
      · dsimp only at b
        dsimp only
        by_cases hk : k = i
        · rw [hk, pup_e rfl, u1 10 (by omega)]
        · rw [pup_k hk]; exact u2 k a (by omega)
  obtain ⟨U, e, hU⟩ := main
  exact ⟨U, e, hU⟩
/-! one row of the model -/
set_option maxHeartbeats 1000000 in
theorem k_best1 {sp : List Int → Int} (hc : sChk n = true) (n1 : 1 ≤ n) (n6 : n ≤ 6) (en : T0 1 0 = (n : Int)) (hsp : ∀ r, sOk n r → ∀ T : zP, T 1 = T0 1 → (∀ s, 0 ≤ s → s < (n : Int) → T 10 s = sG r s) → p_X2_spiteOfRow T = some (sp r)) {i : Nat} {r : List Int} (hr : (sRows n)[i]? = some r) (h : sRM n T0 T q) (g0 : 0 ≤ q.2.2.1) (g1 : q.2.2.1 ≤ 1000000) (b0 : 0 ≤ sp (0 :: r)) (b1 : sp (0 :: r) ≤ 594) : ∃ U, pb_X2_layBest_45 ((i : Int), T) = some (.inr ((i : Int) + 1, U)) ∧ sRM n T0 U (sStep sp q (0 :: r)) := by
  obtain ⟨h1, h2, h3, h4, h5, h6⟩ := h
  have hi : i < (sRows n).length := by
    rcases Nat.lt_or_ge i (sRows n).length with x | x
    · exact x
    · rw [List.getElem?_eq_none x] at hr; cases hr
  have hl : (sRows n).length ≤ 120 := by
    have hc' := hc
    unfold sChk at hc'
    simp only [Bool.and_eq_true, decide_eq_true_eq] at hc'
    exact hc'.1.1.1.2
  have hfa : p_X2_factorial ((n : Int) - 1) = some ((sRows n).length : Int) := by
    have hc' := hc
    unfold sChk at hc'
    simp only [Bool.and_eq_true, decide_eq_true_eq] at hc'
    exact hc'.1.1.1.1.2
  have t1 : T 1 = T0 1 := h1 1 (by omega) (by omega) (by omega)
  have tn : T 1 0 = (n : Int) := by rw [t1]; exact en
  have hmem : r ∈ sRows n := List.mem_of_getElem? hr
  obtain ⟨U, eU, u1, u2⟩ := k_layRow hc n1 n6 tn hr
  obtain ⟨v, ev⟩ : ∃ v, v = sp (0 :: r) := ⟨_, rfl⟩
  have hs : p_X2_spiteOfRow U = some v := by
    rw [ev]; exact hsp _ (sMem n1 hc hmem) U ((u1 1 (by omega)).trans t1) u2
  rw [← ev] at b0 b1
  have hall : p_X2_seatingsInAll T = some ((sRows n).length : Int) := by
    refine pw_to ?_
    unfold p_X2_seatingsInAll
    refine pw_ald (by omega) (by omega) ?_
    rw [tn]
    refine pw_p32 (by omega) (by omega) (pw_beq hfa (pw_some rfl))
  have U0 : ∀ j, U 0 j = T 0 j := fun j => congrFun (u1 0 (by omega)) j
  have e28 : U 0 28 = q.1 := (U0 _).trans h3
  have e29 : U 0 29 = q.2.2.1 := (U0 _).trans h5
  have e30 : U 0 30 = q.2.1 := (U0 _).trans h4
  have pick : ∀ X : zP, pb_X2_layBest_45 ((i : Int), T) = some (.inr ((i : Int) + 1, X)) → (∀ c, c ≠ 0 → c ≠ 11 → X c = U c) → (∀ i, i < 28 ∨ 30 < i → X 0 i = U 0 i) → X 0 28 = (sStep sp q (0 :: r)).1 → X 0 30 = (sStep sp q (0 :: r)).2.1 → X 0 29 = (sStep sp q (0 :: r)).2.2.1 → (∀ s, 0 ≤ s → s < (n : Int) → X 11 s = sG (sStep sp q (0 :: r)).2.2.2 s) → ∃ U, pb_X2_layBest_45 ((i : Int), T) = some (.inr ((i : Int) + 1, U)) ∧ sRM n T0 U (sStep sp q (0 :: r)) := fun X x1 x2 x3 x4 x5 x6 x7 =>
    ⟨X, x1, fun c a b d => ((x2 c a d).trans (u1 c b)).trans (h1 c a b d), fun i hi => ((x3 i hi).trans (U0 i)).trans (h2 i hi), x4, x5, x6, x7⟩
  unfold sStep at pick ⊢
  dsimp only at pick ⊢
  rw [← ev] at pick ⊢
  have start : ∀ R : Option (zP ⊕ (Int × zP)), ((fun S20 : zP => zlt (S20 0 30) fun v22 => ((if v ≤ v22 then (zlt (S20 0 30) fun v25 => some (v25)) else (some (v)) : Option Int)).bind fun v24 => zlt (pup S20 0 30 v24) fun S26 => zlt (S26 0 28) fun v27 => ((if v = v27 then (zlt (S26 0 29) fun v30 => p32 (v30 + 1) fun x1 => zlt (pup S26 0 29 x1) fun S31 => some (S31)) else (some (S26)) : Option zP)).bind fun S29 => zlt (S29 0 28) fun v32 => if v < v32 then (zlt (pup S29 0 28 v) fun S33 => zlt (pup S33 0 29 1) fun S34 => (zLoop pb_X2_layBest_133 zFuel (0, S34)).bind fun S36 => p32 ((i : Int) + 1) fun v47 => some (.inr (v47, S36))) else (p32 ((i : Int) + 1) fun v48 => some (.inr (v48, S29)))) U = R) → pb_X2_layBest_45 ((i : Int), T) = R := by
    intro R hR
    unfold pb_X2_layBest_45
    dsimp only
    rw [hall]
    dsimp only [Option.bind_some]
    rw [if_neg (by omega)]
    have e0 : pald T 1 1450 0 = some (n : Int) := by rw [← tn]; exact if_pos (by omega)
    rw [e0]
    dsimp only [Option.bind_some]
    rw [if_neg (by omega), eU]
    dsimp only [Option.bind_some]
    rw [hs]
    exact hR
  have hmx : (if v ≤ q.2.1 then q.2.1 else v) = if q.2.1 < v then v else q.2.1 := by
    by_cases x : v ≤ q.2.1
    · rw [if_pos x, if_neg (by omega)]
    · rw [if_neg x, if_pos (by omega)]
  obtain ⟨mx, emx⟩ : ∃ mx, mx = if q.2.1 < v then v else q.2.1 := ⟨_, rfl⟩
  rw [← emx] at pick hmx ⊢
  have hb : ∀ {K : Int → Option (zP ⊕ (Int × zP))} {Q : zP ⊕ (Int × zP) → Prop}, pw (K mx) Q → pw (((if v ≤ q.2.1 then (some q.2.1) else (some v) : Option Int)).bind K) Q := by
    intro K Q hk
    have : (if v ≤ q.2.1 then (some q.2.1) else (some v) : Option Int) = some mx := by
      rw [← hmx]
      split <;> rfl
    rw [this]; exact hk
  by_cases c1 : v < q.1
  · rw [if_pos c1, if_pos c1, if_pos c1] at pick ⊢
    obtain ⟨X, x1, x2, x3⟩ := k_cpRow n6 (pup (pup (pup U 0 30 mx) 0 28 v) 0 29 1) (by rw [pup_c (by omega), pup_c (by omega), pup_c (by omega), u1 1 (by omega)]; exact tn)
    refine pick X (start _ (pw_to ?_)) (fun c a b => ?_) (fun i hi => ?_) ?_ ?_ ?_ (fun s a b => ?_)
    · dsimp only
      refine pw_zlt ?_
      rw [e30]
      refine hb ?_
      refine pw_zlt (pw_zlt ?_)
      rw [pup_k (by omega), e28]
      refine pw_bite (fun x => absurd x (by omega)) (fun _ => pw_bsome (pw_zlt ?_))
      rw [pup_k (by omega), e28]
      refine pw_ite (fun _ => pw_zlt (pw_zlt (pw_beq x1 (pw_p32 (by omega) (by omega) (pw_some rfl))))) (fun x => absurd c1 x)
    · rw [x2 c b, pup_r a, pup_r a, pup_r a]
    · rw [x2 0 (by omega), pup_k (by omega), pup_k (by omega), pup_k (by omega)]
    · rw [x2 0 (by omega), pup_k (by omega), pup_e rfl]
    · rw [x2 0 (by omega), pup_k (by omega), pup_k (by omega), pup_e rfl]
    · rw [x2 0 (by omega), pup_e rfl]
    · rw [x3 s a b, pup_c (by omega), pup_c (by omega), pup_c (by omega)]; exact u2 s a b
  · rw [if_neg c1, if_neg c1, if_neg c1] at pick ⊢
    have u11 : ∀ s, 0 ≤ s → s < (n : Int) → U 11 s = sG q.2.2.2 s := fun s a b => by rw [u1 11 (by omega)]; exact h6 s a b
    by_cases c2 : v = q.1
    · rw [if_pos c2] at pick ⊢
      refine pick (pup (pup U 0 30 mx) 0 29 (q.2.2.1 + 1)) (start _ (pw_to ?_)) (fun c a b => ?_) (fun i hi => ?_) ?_ ?_ ?_ (fun s a b => ?_)
      · dsimp only
        refine pw_zlt ?_
        rw [e30]
        refine hb ?_
        refine pw_zlt (pw_zlt ?_)
        rw [pup_k (by omega), e28]
        refine pw_bite (fun _ => pw_bzlt ?_) (fun x => absurd c2 x)
        rw [pup_k (by omega), e29]
        refine pw_bp32 (by omega) (by omega) (pw_bzlt (pw_bsome (pw_zlt ?_)))
        rw [pup_k (by omega), pup_k (by omega), e28]
        refine pw_ite (fun x => absurd x c1) (fun _ => pw_p32 (by omega) (by omega) (pw_some rfl))
      · rw [pup_r a, pup_r a]
      · rw [pup_k (by omega), pup_k (by omega)]
      · rw [pup_k (by omega), pup_k (by omega)]; exact e28
      · rw [pup_k (by omega), pup_e rfl]
      · rw [pup_e rfl]
      · rw [pup_c (by omega), pup_c (by omega)]; exact u11 s a b
    · rw [if_neg c2] at pick ⊢
      refine pick (pup U 0 30 mx) (start _ (pw_to ?_)) (fun c a b => ?_) (fun i hi => ?_) ?_ ?_ ?_ (fun s a b => ?_)
      · dsimp only
        refine pw_zlt ?_
        rw [e30]
        refine hb ?_
        refine pw_zlt (pw_zlt ?_)
        rw [pup_k (by omega), e28]
        refine pw_bite (fun x => absurd x c2) (fun _ => pw_bsome (pw_zlt ?_))
        rw [pup_k (by omega), e28]
        refine pw_ite (fun x => absurd x c1) (fun _ => pw_p32 (by omega) (by omega) (pw_some rfl))
      · rw [pup_r a]
      · rw [pup_k (by omega)]
      · rw [pup_k (by omega)]; exact e28
      · rw [pup_e rfl]
      · rw [pup_k (by omega)]; exact e29
      · rw [pup_c (by omega)]; exact u11 s a b
end
