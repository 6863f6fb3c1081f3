/-! PURE, the game: the component; game, bite -/
set_option maxRecDepth 100000
def gMem (S : zP) : Prop := ∀ e, e ∈ g6 → S 150 e = 0 ∨ S 150 e = if gW e = true then 2 else 1
section
variable {W : pW} {S T S0 : zP}
set_option maxHeartbeats 1000000 in
theorem k_bite0 {rec : (zP → Int → Option (Int × zP)) × (zP → Int → Option (Int × zP))} {d : Int} (hd : d ∈ gSh) (hm : gMem S) (hrec : ∀ (d' : Int) (X : zP), d' ∈ gSh → gE d' ≠ 0 → gQ (gE d') < gQ (gE d) → gMem X → ∃ Y, rec.1 X d' = some (if gW (gE d') = true then 1 else 0, Y) ∧ (∀ c, c ≠ 150 → Y c = X c) ∧ gMem Y) : ∃ x Y, qp_X0_biteOf rec S d = some (x, Y) ∧ (∀ c, c ≠ 150 → Y c = S c) ∧ gMem Y ∧ ((∃ r c, x = 10 * r + c ∧ gFi (gE d) r c) ∨ (x = -1 ∧ gNo (gE d) 5 0)) := by
  obtain ⟨⟨-, ⟨e0, e1, -⟩, -⟩, hS⟩ := gOkD_i hd
  obtain ⟨e, ee⟩ : ∃ e, e = gE d := ⟨_, rfl⟩
  rw [← ee] at hS hrec e0 e1 ⊢
  have main : pw (zLoop (pb_X0_biteOf_2 rec d) zFuel (0, S)) (fun x => match x with | .inl v => ((∀ c, c ≠ 150 → v.2 c = S c) ∧ gMem v.2) ∧ ∃ r c, v.1 = 10 * r + c ∧ gFi e r c | .inr Y => ((∀ c, c ≠ 150 → Y c = S c) ∧ gMem Y) ∧ gNo e 5 0) := by
    refine pw_lp (fun s => (0 ≤ s.1 ∧ s.1 ≤ 5) ∧ ((∀ c, c ≠ 150 → s.2 c = S c) ∧ gMem s.2) ∧ gNo e s.1 0) (fun s => (5 - s.1).toNat) ?_ ⟨by dsimp only; omega, ⟨fun _ _ => rfl, hm⟩, fun r' c' h1 h2 h3 h4 h5 => absurd h5 (by dsimp only; omega)⟩ (by dsimp only; omega)
    rintro ⟨r, X⟩ ⟨⟨r0, r1⟩, hX, hn⟩
    dsimp only at r0 r1 hX hn
    unfold pb_X0_biteOf_2
    dsimp only
    by_cases hr : r = 5
    · subst hr
      exact pw_ite (fun _ => pw_some ⟨hX, hn⟩) (fun x => absurd x (by omega))
    · refine pw_ite (fun x => absurd x (by omega)) (fun _ => ?_)
      obtain ⟨⟨f1, -, f2, f3⟩, f4⟩ := hS r r0 (by omega)
      refine pw_ex (fun Y => ((∀ c, c ≠ 150 → Y c = S c) ∧ gMem Y) ∧ gNo e r (gR e r)) ?_ (fun Y hk => ?_)
      · refine pw_mono (A := fun x => match x with | .inl (.inl (.inl v)) => ((∀ c, c ≠ 150 → v.2 c = S c) ∧ gMem v.2) ∧ ∃ c, v.1 = 10 * r + c ∧ gFi e r c | .inr Y => ((∀ c, c ≠ 150 → Y c = S c) ∧ gMem Y) ∧ gNo e r (gR e r) | _ => False) ?_ ?_
        · refine pw_lp (fun s => (0 ≤ s.1 ∧ s.1 ≤ gR e r) ∧ ((∀ c, c ≠ 150 → s.2 c = S c) ∧ gMem s.2) ∧ gNo e r s.1) (fun s => (5 - s.1).toNat) ?_ ⟨by dsimp only; omega, hX, hn⟩ (by dsimp only; omega)
          rintro ⟨c, Y⟩ ⟨⟨c0, c1⟩, hY, hc⟩
          dsimp only at c0 c1 hY hc
          unfold pb_X0_biteOf_9
          dsimp only
          refine pw_beq f1 ?_
          by_cases hcr : c = gR e r
          · subst hcr
            exact pw_ite (fun _ => pw_some ⟨hY, hc⟩) (fun x => absurd x (by omega))
          · refine pw_ite (fun x => absurd x (by omega)) (fun _ => pw_p32 (by omega) (by omega) ?_)
            have ne : ∀ {r' c' : Int}, (r' < r ∨ (r' = r ∧ c' < c + 1)) → ¬ (r' = r ∧ c' = c) → r' < r ∨ (r' = r ∧ c' < c) := fun h k => by omega
            by_cases hz : r + c ≤ 0
            · refine pw_ite (fun _ => pw_p32 (by omega) (by omega) (pw_some ⟨⟨by dsimp only; omega, hY, fun r' c' h1 h2 h3 h4 h5 h6 => ?_⟩, by dsimp only; omega⟩)) (fun x => absurd hz x)
              dsimp only at h5
              exact hc r' c' h1 h2 h3 h4 (ne h5 (by omega)) h6
            · refine pw_ite (fun x => absurd x hz) (fun _ => ?_)
              obtain ⟨g1, g2, g3, g4, g5, g6, g7⟩ := f4 c c0 (by omega)
              have n0 : gE (gB d r c) ≠ 0 := by
                rw [g3]; intro x; have := g7.mpr x; omega
              obtain ⟨Z, z1, z2, z3⟩ := hrec (gB d r c) Y g4 n0 (by rw [g3]; exact g5) hY.2
              have hZ : (∀ c, c ≠ 150 → Z c = S c) ∧ gMem Z := ⟨fun c hc => (z2 c hc).trans (hY.1 c hc), z3⟩
              refine pw_beq g1 (pw_beq z1 ?_)
              rw [g3]
              dsimp only
              cases hg : gW (gC e r c) with
              | false =>
                refine pw_ite (fun _ => pw_p32 (by omega) (by omega) (pw_some ?_)) (fun x => absurd rfl x)
                exact ⟨hZ, c, rfl, ⟨r0, by omega⟩, ⟨c0, by omega⟩, by omega, hg, hc⟩
              | true =>
                refine pw_ite (fun x => absurd x (by decide)) (fun _ => pw_p32 (by omega) (by omega) (pw_some ?_))
                refine ⟨⟨by dsimp only; omega, hZ, fun r' c' h1 h2 h3 h4 h5 h6 => ?_⟩, by dsimp only; omega⟩
                dsimp only at h5
                by_cases hx : r' = r ∧ c' = c
                · rw [hx.1, hx.2]; exact hg
                · exact hc r' c' h1 h2 h3 h4 (ne h5 hx) h6
        · intro x hx
          match x, hx with
          | .inl (.inl (.inl v)), ⟨h0, c, h1, h2⟩ => exact ⟨h0, r, c, h1, h2⟩
          | .inr _, h => exact h
      · refine pw_p32 (by omega) (by omega) (pw_some ⟨⟨by dsimp only; omega, hk.1, fun r' c' h1 h2 h3 h4 h5 h6 => ?_⟩, by dsimp only; omega⟩)
        dsimp only at h5
        refine hk.2 r' c' h1 h2 h3 h4 ?_ h6
        by_cases hx : r' = r
        · subst hx; exact Or.inr ⟨rfl, h4⟩
        · exact Or.inl (by omega)
  obtain ⟨x, ex, hx⟩ := main
  unfold qp_X0_biteOf
  rw [ex]
  match x, hx with
  | .inl (v, Y), ⟨h0, r, c, h1, h2⟩ => exact ⟨v, Y, rfl, h0.1, h0.2, Or.inl ⟨r, c, h1, h2⟩⟩
  | .inr Y, ⟨h0, h⟩ => exact ⟨-1, Y, rfl, h0.1, h0.2, Or.inr ⟨rfl, h⟩⟩
set_option maxHeartbeats 1000000 in
theorem k_wins0 {rec : (zP → Int → Option (Int × zP)) × (zP → Int → Option (Int × zP))} {d : Int} (hd : d ∈ gSh) (h0 : gE d ≠ 0) (hm : gMem S) (hrec : ∃ x Y, rec.2 S d = some (x, Y) ∧ (∀ c, c ≠ 150 → Y c = S c) ∧ gMem Y ∧ ((∃ r c, x = 10 * r + c ∧ gFi (gE d) r c) ∨ (x = -1 ∧ gNo (gE d) 5 0))) : ∃ Y, qp_X0_wins rec S d = some (if gW (gE d) = true then 1 else 0, Y) ∧ (∀ c, c ≠ 150 → Y c = S c) ∧ gMem Y := by
  obtain ⟨⟨a1, ⟨e0, e1, -⟩, -⟩, -⟩ := gOkD_i hd
  have he := g6_of hd
  have b1 : pnb (pi2b 1) = 1 := by decide
  have b2 : pnb (pi2b 2) = 2 := by decide
  obtain ⟨e, ee⟩ : ∃ e, e = gE d := ⟨_, rfl⟩
  rw [← ee] at a1 e0 e1 he h0 hrec ⊢
  unfold qp_X0_wins
  rw [a1]
  dsimp only [Option.bind_some]
  have al : ∀ X : zP, pald X 150 7776 e = some (X 150 e) := fun X => if_pos (by omega)
  rw [al]
  dsimp only [Option.bind_some]
  by_cases hk : S 150 e = 0
  · obtain ⟨x, Y, y1, y2, y3, y4⟩ := hrec
    rw [if_pos hk, y1]
    dsimp only [Option.bind_some]
    have st : ∀ v, (v = if gW e = true then 2 else 1) → gMem (pup Y 150 e v) := fun v hv f hf => by
      by_cases hfe : f = e
      · subst hfe
        rw [pup_e rfl]; exact Or.inr hv
      · rw [pup_k hfe]; exact y3 f hf
    have pa : ∀ v, past Y 150 7776 e v = some (pup Y 150 e v) := fun v => if_pos (by omega)
    rcases y4 with ⟨r, c, h1, h2⟩ | ⟨h1, h2⟩
    · have hw := gFi_w he h0 h2
      have hr := h2.1
      have hc := h2.2.1
      rw [if_neg (by omega)]
      dsimp only [zlt]
      rw [b2, pa]
      dsimp only [Option.bind_some]
      rw [al, pup_e rfl]
      refine ⟨pup Y 150 e 2, ?_, fun c hc => (pup_r hc).trans (y2 c hc), st 2 (by rw [hw]; rfl)⟩
      rw [hw]; rfl
    · have hw := gNo_w he h0 h2
      rw [if_pos h1]
      dsimp only [zlt]
      rw [b1, pa]
      dsimp only [Option.bind_some]
      rw [al, pup_e rfl]
      refine ⟨pup Y 150 e 1, ?_, fun c hc => (pup_r hc).trans (y2 c hc), st 1 (by rw [hw]; rfl)⟩
      rw [hw]; rfl
  · rw [if_neg hk]
    dsimp only [Option.bind_some]
    rw [al]
    have hv := (hm e he).resolve_left hk
    refine ⟨S, ?_, fun _ _ => rfl, hm⟩
    rw [hv]
    cases gW e <;> rfl
theorem k_wins : ∀ (k D : Nat) (d : Int) (S : zP), d ∈ gSh → gE d ≠ 0 → gQ (gE d) ≤ k → 2 * k + 2 ≤ D → gMem S → ∃ Y, (rp_wins D).1 S d = some (if gW (gE d) = true then 1 else 0, Y) ∧ (∀ c, c ≠ 150 → Y c = S c) ∧ gMem Y
  | _, 0, _, _, _, _, _, h, _ => absurd h (by omega)
  | _, 1, _, _, _, _, _, h, _ => absurd h (by omega)
  | 0, D + 2, d, S, hd, h0, hq, hD, hm => k_wins0 hd h0 hm (k_bite0 hd hm (fun d' X h1 h2 h3 => absurd h3 (by omega)))
  | k + 1, D + 2, d, S, hd, h0, hq, hD, hm => k_wins0 hd h0 hm (k_bite0 hd hm (fun d' X h1 h2 h3 h4 => k_wins k D d' X h1 h2 (by omega) (by omega) h4))
theorem k_bite {d : Int} (hd : d ∈ gSh) (hm : gMem S) : ∃ x Y, p_X0_biteOf S d = some (x, Y) ∧ (∀ c, c ≠ 150 → Y c = S c) ∧ gMem Y ∧ ((∃ r c, x = 10 * r + c ∧ gFi (gE d) r c) ∨ (x = -1 ∧ gNo (gE d) 5 0)) := by
  have hq := (gS_i (g6_of hd)).1.2.2
  exact k_bite0 (rec := rp_wins 69) hd hm (fun d' X h1 h2 h3 h4 => k_wins 25 69 d' X h1 h2 (by omega) (by omega) h4)
def gGm (a b : Int) : Int := gO (zLoop (pb_X0_game_25 a b) zFuel (0, 0))
theorem gGm_fin : ∀ a b : Fin 5, zLoop (pb_X0_game_25 ((a.val : Int) + 1) ((b.val : Int) + 1)) zFuel (0, 0) = some (gGm ((a.val : Int) + 1) ((b.val : Int) + 1)) ∧ zLoop (pb_X2_game_25 ((a.val : Int) + 1) ((b.val : Int) + 1)) zFuel (0, 0) = some (gE (gGm ((a.val : Int) + 1) ((b.val : Int) + 1))) ∧ gE (gGm ((a.val : Int) + 1) ((b.val : Int) + 1)) ≠ 0 ∧ gSh.contains (gGm ((a.val : Int) + 1) ((b.val : Int) + 1)) = true := by decide +kernel
theorem gGm_all {a b : Int} (a0 : 1 ≤ a) (a1 : a ≤ 5) (b0 : 1 ≤ b) (b1 : b ≤ 5) : zLoop (pb_X0_game_25 a b) zFuel (0, 0) = some (gGm a b) ∧ zLoop (pb_X2_game_25 a b) zFuel (0, 0) = some (gE (gGm a b)) ∧ gE (gGm a b) ≠ 0 ∧ gGm a b ∈ gSh := by
  have := gGm_fin ⟨(a - 1).toNat, by omega⟩ ⟨(b - 1).toNat, by omega⟩
  rw [show (((⟨(a - 1).toNat, by omega⟩ : Fin 5).val : Nat) : Int) + 1 = a by show (((a - 1).toNat : Nat) : Int) + 1 = a; omega, show (((⟨(b - 1).toNat, by omega⟩ : Fin 5).val : Nat) : Int) + 1 = b by show (((b - 1).toNat : Nat) : Int) + 1 = b; omega] at this
  exact ⟨this.1, this.2.1, this.2.2.1, List.contains_iff_mem.mp this.2.2.2⟩
theorem pRel_g (h : pRel W S T) {z u : zP} (hz : ∀ c, c ≠ 150 → z c = S c) (hu : ∀ c, c ≠ 15 → u c = T c) : pRel W z u :=
  pRel_w h (fun c a b => hz c (by omega)) (fun i hi => by rw [hz 0 (by omega)]) (fun c a b => hu c (by omega)) (fun i hi => by rw [hu 0 (by omega)])
theorem q_game (h : pRel W S T) (hm : gMem S) (a b : Int) : pw (p_X0_game S a b) (fun z => pw (p_X2_game T a b) (fun t => z.1 = t.1 ∧ pRel W z.2 t.2 ∧ gMem z.2)) := by
  unfold p_X0_game p_X2_game
  refine pw_in (fun a0 a1 => ?_) (fun ha => ?_)
  · refine pw_ite (fun x => absurd x (by omega)) (fun _ => pw_in (fun b0 b1 => ?_) (fun hb => ?_))
    · refine pw_ite (fun x => absurd x (by omega)) (fun _ => ?_)
      obtain ⟨g1, g2, g3, g4⟩ := gGm_all a0 a1 b0 b1
      have he := g6_of g4
      obtain ⟨Y, y1, y2, y3⟩ := k_wins 25 70 _ S g4 g3 (gS_i he).1.2.2 (by omega) hm
      obtain ⟨U, u1, u2, u3⟩ := k_layWins (T := T) he g3
      refine pw_beq g1 (pw_beq y1 ?_)
      have hr : pRel W Y U := pRel_g h y2 u2
      have model : ∀ K : Int → Option (Int × zP), ∀ Q, pw (K (if gW (gE (gGm a b)) = true then 1 else 0)) Q → K = (fun v => some (v, U)) → pw ((p_X2_isIn a 1 5).bind fun v1 => if v1 = 0 then (some (((-1 : Int), T))) else ((p_X2_isIn b 1 5).bind fun v2 => if v2 = 0 then (some (((-1), T))) else ((zLoop (pb_X2_game_25 a b) zFuel (0, 0)).bind fun v4 => (p_X2_layWins T v4).bind fun S12 => (p_X2_biteOf S12 v4).bind fun v13 => if v13 = (-1) then (some ((0, S12))) else (some ((1, S12)))))) Q := by
        rintro K Q hK rfl
        refine pw_isIn (fun _ _ => ?_) (fun x => absurd x (by omega))
        refine pw_ite (fun x => absurd x (by omega)) (fun _ => pw_isIn (fun _ _ => ?_) (fun x => absurd x (by omega)))
        refine pw_ite (fun x => absurd x (by omega)) (fun _ => pw_beq g2 (pw_beq u1 ?_))
        rcases k_bite2 (T := U) he g3 u3 with ⟨r, c, b1, b2⟩ | ⟨b1, b2⟩
        · have hb1 := b2.1
          have hb2 := b2.2.1
          rw [gFi_w he g3 b2] at hK
          exact pw_beq b1 (pw_ite (fun x => absurd x (by omega)) (fun _ => hK))
        · rw [gNo_w he g3 b2] at hK
          exact pw_beq b1 (pw_ite (fun _ => hK) (fun x => absurd rfl x))
      cases hw : gW (gE (gGm a b)) with
      | true =>
        rw [hw] at model
        refine pw_ite (fun x => absurd x (by decide)) (fun _ => pw_some ?_)
        exact model _ _ (pw_some ⟨rfl, hr, y3⟩) rfl
      | false =>
        rw [hw] at model
        refine pw_ite (fun _ => pw_some ?_) (fun x => absurd rfl x)
        exact model _ _ (pw_some ⟨rfl, hr, y3⟩) rfl
    · refine pw_ite (fun _ => pw_some ?_) (fun x => absurd rfl x)
      refine pw_isIn (fun _ _ => ?_) (fun x => absurd x (by omega))
      refine pw_ite (fun x => absurd x (by omega)) (fun _ => pw_isIn (fun _ _ => absurd hb (by omega)) (fun _ => ?_))
      exact pw_ite (fun _ => pw_some ⟨rfl, h, hm⟩) (fun x => absurd rfl x)
  · refine pw_ite (fun _ => pw_some ?_) (fun x => absurd rfl x)
    refine pw_isIn (fun _ _ => absurd ha (by omega)) (fun _ => ?_)
    exact pw_ite (fun _ => pw_some ⟨rfl, h, hm⟩) (fun x => absurd rfl x)
end
