/-! PURE, the game: who wins -/
set_option maxRecDepth 100000
theorem gOkD_i {d : Int} (h : d ∈ gSh) : (p_X0_sixesOf d = some (gE d) ∧ (0 ≤ gE d ∧ gE d < 7776 ∧ gQ (gE d) ≤ 25) ∧ p_X2_isShape (gE d) = some 1) ∧ ∀ r : Int, 0 ≤ r → r < 5 → (p_X0_wideOf d r = some (gR (gE d) r) ∧ p_X2_rowOf (gE d) r = some (gR (gE d) r) ∧ 0 ≤ gR (gE d) r ∧ gR (gE d) r ≤ 5) ∧ ∀ c : Int, 0 ≤ c → c < gR (gE d) r → p_X0_bitten d r c = some (gB d r c) ∧ p_X2_bitten (gE d) r c = some (gC (gE d) r c) ∧ gE (gB d r c) = gC (gE d) r c ∧ gB d r c ∈ gSh ∧ gQ (gC (gE d) r c) < gQ (gE d) ∧ gC (gE d) r c < gE d ∧ (r + c = 0 ↔ gC (gE d) r c = 0) := by
  have ha := List.all_eq_true.mp gOk_all d h
  unfold gOkD at ha
  simp only [Bool.and_eq_true, decide_eq_true_eq] at ha
  obtain ⟨⟨⟨⟨⟨⟨⟨a1, a2⟩, a3⟩, r0⟩, r1⟩, r2⟩, r3⟩, r4⟩ := ha
  refine ⟨⟨a1, a2, a3⟩, fun r x y => ?_⟩
  have hr : gOkR d (gE d) r = true := by
    rcases (show r = 0 ∨ r = 1 ∨ r = 2 ∨ r = 3 ∨ r = 4 by omega) with e | e | e | e | e <;> rw [e] <;> assumption
  unfold gOkR at hr
  simp only [Bool.and_eq_true, decide_eq_true_eq] at hr
  obtain ⟨⟨⟨⟨⟨⟨⟨b1, b2⟩, b3⟩, c0⟩, c1⟩, c2⟩, c3⟩, c4⟩ := hr
  refine ⟨⟨b1, b2, b3⟩, fun c u v => ?_⟩
  have hc : gOkC d (gE d) r c = true := by
    rcases (show c = 0 ∨ c = 1 ∨ c = 2 ∨ c = 3 ∨ c = 4 by omega) with e | e | e | e | e <;> rw [e] <;> assumption
  have hc := of_decide_eq_true hc
  obtain ⟨e1, e2, e3, e4, e5⟩ := hc v
  exact ⟨e1, e2, e3, List.contains_iff_mem.mp e4, e5⟩
theorem g6_i {e : Int} (h : e ∈ g6) : ∃ d, d ∈ gSh ∧ gE d = e := by
  unfold g6 at h
  exact List.mem_map.mp h
theorem g6_of {d : Int} (h : d ∈ gSh) : gE d ∈ g6 := by
  unfold g6
  exact List.mem_map.mpr ⟨d, h, rfl⟩
/-- of a shape by six -/
theorem gS_i {e : Int} (h : e ∈ g6) : (0 ≤ e ∧ e < 7776 ∧ gQ e ≤ 25) ∧ p_X2_isShape e = some 1 ∧ ∀ r : Int, 0 ≤ r → r < 5 → (p_X2_rowOf e r = some (gR e r) ∧ 0 ≤ gR e r ∧ gR e r ≤ 5) ∧ ∀ c : Int, 0 ≤ c → c < gR e r → p_X2_bitten e r c = some (gC e r c) ∧ gC e r c ∈ g6 ∧ gQ (gC e r c) < gQ e ∧ gC e r c < e ∧ (r + c = 0 ↔ gC e r c = 0) := by
  obtain ⟨d, hd, rfl⟩ := g6_i h
  obtain ⟨⟨-, a2, a3⟩, a4⟩ := gOkD_i hd
  refine ⟨a2, a3, fun r x y => ⟨(a4 r x y).1.2, fun c u v => ?_⟩⟩
  obtain ⟨-, b2, b3, b4, b5⟩ := (a4 r x y).2 c u v
  refine ⟨b2, ?_, b5⟩
  rw [← b3]; exact g6_of b4
theorem gF_i {k : Int} (h0 : 0 ≤ k) (h1 : k < 7776) : p_X2_isShape k = some 0 ∨ k ∈ g6 := by
  by_cases h : p_X2_isShape k = some 0
  · exact Or.inl h
  · right
    have hc := of_decide_eq_true (gF_all (i := k.toNat / 648) (by omega))
    have hm : k ∈ ((List.range' (648 * (k.toNat / 648)) 648).filter fun (k : Nat) => decide (p_X2_isShape (k : Int) ≠ some 0)).map fun (k : Nat) => (k : Int) := by
      refine List.mem_map.mpr ⟨k.toNat, List.mem_filter.mpr ⟨List.mem_range'_1.mpr (by omega), ?_⟩, Int.toNat_of_nonneg h0⟩
      rw [Int.toNat_of_nonneg h0]
      exact decide_eq_true h
    rw [hc] at hm
    exact (List.mem_filter.mp hm).1
def gWin : Nat → Int → Bool
  | 0, _ => true
  | f + 1, e => decide (e = 0) || (List.range 5).any fun (r : Nat) => (List.range 5).any fun (c : Nat) => decide ((c : Int) < gR e r) && decide (0 < r + c) && !gWin f (gC e r c)
theorem gWin_s {f : Nat} {e : Int} : gWin (f + 1) e = true ↔ e = 0 ∨ ∃ r c : Int, (0 ≤ r ∧ r < 5) ∧ (0 ≤ c ∧ c < 5) ∧ c < gR e r ∧ 0 < r + c ∧ gWin f (gC e r c) = false := by
  show (decide (e = 0) || (List.range 5).any fun (r : Nat) => (List.range 5).any fun (c : Nat) => decide ((c : Int) < gR e r) && decide (0 < r + c) && !gWin f (gC e r c)) = true ↔ _
  simp only [Bool.or_eq_true, decide_eq_true_eq, List.any_eq_true, Bool.and_eq_true, List.mem_range, Bool.not_eq_true']
  constructor
  · rintro (h | ⟨r, hr, c, hc, ⟨h1, h2⟩, h3⟩)
    · exact Or.inl h
    · exact Or.inr ⟨r, c, ⟨by omega, by omega⟩, ⟨by omega, by omega⟩, h1, by omega, h3⟩
  · rintro (h | ⟨r, c, ⟨r0, r1⟩, ⟨c0, c1⟩, h1, h2, h3⟩)
    · exact Or.inl h
    · refine Or.inr ⟨r.toNat, by omega, c.toNat, by omega, ⟨?_, by omega⟩, ?_⟩
      · rw [Int.toNat_of_nonneg r0, Int.toNat_of_nonneg c0]; exact h1
      · rw [Int.toNat_of_nonneg r0, Int.toNat_of_nonneg c0]; exact h3
theorem gWin_f : ∀ (f g : Nat) (e : Int), e ∈ g6 → gQ e < f → gQ e < g → gWin f e = gWin g e
  | 0, _, _, _, h, _ => absurd h (Nat.not_lt_zero _)
  | _ + 1, 0, _, _, _, h => absurd h (Nat.not_lt_zero _)
  | f + 1, g + 1, e, he, h1, h2 => by
    have hS := (gS_i he).2.2
    have key : ∀ r c : Int, (0 ≤ r ∧ r < 5) → (0 ≤ c ∧ c < 5) → c < gR e r → gWin f (gC e r c) = gWin g (gC e r c) := fun r c hr hc hl => by
      obtain ⟨-, b2, b3, -⟩ := (hS r hr.1 hr.2).2 c hc.1 hl
      exact gWin_f f g _ b2 (by omega) (by omega)
    refine Bool.eq_iff_iff.mpr ?_
    rw [gWin_s, gWin_s]
    constructor
    · rintro (h | ⟨r, c, hr, hc, h1, h2, h3⟩)
      · exact Or.inl h
      · exact Or.inr ⟨r, c, hr, hc, h1, h2, by rw [← key r c hr hc h1]; exact h3⟩
    · rintro (h | ⟨r, c, hr, hc, h1, h2, h3⟩)
      · exact Or.inl h
      · exact Or.inr ⟨r, c, hr, hc, h1, h2, by rw [key r c hr hc h1]; exact h3⟩
def gW (e : Int) : Bool := gWin 26 e
theorem gW_0 : gW 0 = true := by
  unfold gW
  exact gWin_s.mpr (Or.inl rfl)
theorem gW_s {e : Int} (he : e ∈ g6) (h0 : e ≠ 0) : gW e = true ↔ ∃ r c : Int, (0 ≤ r ∧ r < 5) ∧ (0 ≤ c ∧ c < 5) ∧ c < gR e r ∧ 0 < r + c ∧ gW (gC e r c) = false := by
  have hq := (gS_i he).1.2.2
  have h := (gS_i he).2.2
  unfold gW
  rw [show (26 : Nat) = 25 + 1 from rfl, gWin_s]
  have key : ∀ r c : Int, (0 ≤ r ∧ r < 5) → (0 ≤ c ∧ c < 5) → c < gR e r → gWin 25 (gC e r c) = gWin (25 + 1) (gC e r c) := fun r c hr hc hl => by
    obtain ⟨-, b2, b3, -⟩ := (h r hr.1 hr.2).2 c hc.1 hl
    exact gWin_f _ _ _ b2 (by omega) (by omega)
  constructor
  · rintro (h | ⟨r, c, hr, hc, h1, h2, h3⟩)
    · exact absurd h h0
    · exact ⟨r, c, hr, hc, h1, h2, by rw [← key r c hr hc h1]; exact h3⟩
  · rintro ⟨r, c, hr, hc, h1, h2, h3⟩
    exact Or.inr ⟨r, c, hr, hc, h1, h2, by rw [key r c hr hc h1]; exact h3⟩
/-- no bite wins ahead of r, c -/
def gNo (e r c : Int) : Prop := ∀ r' c' : Int, 0 ≤ r' → 0 ≤ c' → r' < 5 → c' < gR e r' → (r' < r ∨ (r' = r ∧ c' < c)) → 0 < r' + c' → gW (gC e r' c') = true
/-- the first bite that wins -/
def gFi (e r c : Int) : Prop := (0 ≤ r ∧ r < 5) ∧ (0 ≤ c ∧ c < gR e r) ∧ 0 < r + c ∧ gW (gC e r c) = false ∧ gNo e r c
theorem gFi_u {e r c r' c' : Int} (h : gFi e r c) (k : gFi e r' c') : r = r' ∧ c = c' := by
  obtain ⟨⟨a1, a2⟩, ⟨a3, a4⟩, a5, a6, a7⟩ := h
  obtain ⟨⟨b1, b2⟩, ⟨b3, b4⟩, b5, b6, b7⟩ := k
  by_cases x : r < r' ∨ (r = r' ∧ c < c')
  · have := b7 r c a1 a3 a2 a4 x a5
    rw [a6] at this; cases this
  · by_cases y : r' < r ∨ (r' = r ∧ c' < c)
    · have := a7 r' c' b1 b3 b2 b4 y b5
      rw [b6] at this; cases this
    · omega
theorem gNo_w {e : Int} (he : e ∈ g6) (h0 : e ≠ 0) (h : gNo e 5 0) : gW e = false := by
  cases hw : gW e with
  | false => rfl
  | true =>
    obtain ⟨r, c, hr, hc, h1, h2, h3⟩ := (gW_s he h0).mp hw
    have := h r c hr.1 hc.1 hr.2 h1 (by omega) h2
    rw [h3] at this; cases this
theorem gFi_w {e r c : Int} (he : e ∈ g6) (h0 : e ≠ 0) (h : gFi e r c) : gW e = true := by
  have := ((gS_i he).2.2 r h.1.1 h.1.2).1
  have h9 := h.2.1.2
  exact (gW_s he h0).mpr ⟨r, c, h.1, ⟨h.2.1.1, by omega⟩, h.2.1.2, h.2.2.1, h.2.2.2.1⟩
section
variable {W : pW} {S T S0 : zP}
/-! the model -/
def gWn (T : zP) (k : Int) : Prop := ∀ e, e ∈ g6 → e < k → T 15 e = if gW e = true then 1 else 0
set_option maxHeartbeats 1000000 in
theorem k_bite2 {e : Int} (he : e ∈ g6) (h0 : e ≠ 0) (hw : gWn T e) : (∃ r c, p_X2_biteOf T e = some (5 * r + c) ∧ gFi e r c) ∨ (p_X2_biteOf T e = some (-1) ∧ gNo e 5 0) := by
  obtain ⟨⟨e0, e1, -⟩, -, hS⟩ := gS_i he
  have main : pw (zLoop (pb_X2_biteOf_2 T e) zFuel 0) (fun x => match x with | .inl v => ∃ r c, v = 5 * r + c ∧ gFi e r c | .inr _ => gNo e 5 0) := by
    refine pw_lp (fun r => (0 ≤ r ∧ r ≤ 5) ∧ gNo e r 0) (fun r => (5 - r).toNat) ?_ ⟨by omega, fun r' c' h1 h2 h3 h4 h5 => absurd h5 (by omega)⟩ (by omega)
    rintro r ⟨⟨r0, r1⟩, hn⟩
    unfold pb_X2_biteOf_2
    by_cases hr : r = 5
    · subst hr
      exact pw_ite (fun _ => pw_some hn) (fun x => absurd x (by omega))
    · refine pw_ite (fun x => absurd x (by omega)) (fun _ => ?_)
      obtain ⟨⟨f1, f2, f3⟩, f4⟩ := hS r r0 (by omega)
      refine pw_ex (fun _ => gNo e r (gR e r)) ?_ (fun _ hk => ?_)
      · refine pw_mono (A := fun x => match x with | .inl (.inl (.inl v)) => ∃ c, v = 5 * r + c ∧ gFi e r c | .inr _ => gNo e r (gR e r) | _ => False) ?_ ?_
        · refine pw_lp (fun c => (0 ≤ c ∧ c ≤ gR e r) ∧ gNo e r c) (fun c => (5 - c).toNat) ?_ ⟨by omega, hn⟩ (by omega)
          rintro c ⟨⟨c0, c1⟩, hc⟩
          unfold pb_X2_biteOf_9
          refine pw_beq f1 ?_
          by_cases hcr : c = gR e r
          · subst hcr
            exact pw_ite (fun _ => pw_some hc) (fun x => absurd x (by omega))
          · refine pw_ite (fun x => absurd x (by omega)) (fun _ => ?_)
            obtain ⟨g1, g2, g3, g4, g5⟩ := f4 c c0 (by omega)
            have gi := (gS_i g2).1
            have hv := hw _ g2 g4
            refine pw_beq g1 (pw_ald (by omega) (by omega) ?_)
            cases hg : gW (gC e r c) with
            | false =>
              rw [hg] at hv
              rw [show T 15 (gC e r c) = 0 from hv]
              refine pw_ite (fun _ => pw_p32 (by omega) (by omega) (pw_some ?_)) (fun x => absurd rfl x)
              refine ⟨c, rfl, ⟨⟨r0, by omega⟩, ⟨c0, by omega⟩, ?_, hg, hc⟩⟩
              by_cases hz : r + c = 0
              · rw [g5.mp hz, gW_0] at hg; cases hg
              · omega
            | true =>
              rw [hg] at hv
              rw [show T 15 (gC e r c) = 1 from hv]
              refine pw_ite (fun x => absurd x (by omega)) (fun _ => pw_p32 (by omega) (by omega) (pw_some ?_))
              refine ⟨⟨by omega, fun r' c' h1 h2 h3 h4 h5 h6 => ?_⟩, by omega⟩
              by_cases hx : r' = r ∧ c' = c
              · rw [hx.1, hx.2]; exact hg
              · exact hc r' c' h1 h2 h3 h4 (by omega) h6
        · intro x hx
          match x, hx with
          | .inl (.inl (.inl v)), ⟨c, h1, h2⟩ => exact ⟨r, c, h1, h2⟩
          | .inr _, h => exact h
      · refine pw_p32 (by omega) (by omega) (pw_some ⟨⟨by omega, fun r' c' h1 h2 h3 h4 h5 h6 => ?_⟩, by omega⟩)
        refine hk r' c' h1 h2 h3 h4 ?_ h6
        by_cases hx : r' = r
        · subst hx; exact Or.inr ⟨rfl, h4⟩
        · exact Or.inl (by omega)
  obtain ⟨x, ex, hx⟩ := main
  unfold p_X2_biteOf
  rw [ex]
  match x, hx with
  | .inl v, ⟨r, c, h1, h2⟩ => exact Or.inl ⟨r, c, by rw [h1]; rfl, h2⟩
  | .inr _, h => exact Or.inr ⟨rfl, h⟩
set_option maxHeartbeats 1000000 in
theorem k_layWins {e : Int} (he : e ∈ g6) (h0 : e ≠ 0) : ∃ U, p_X2_layWins T e = some U ∧ (∀ c, c ≠ 15 → U c = T c) ∧ gWn U e := by
  have z1 : pnz 1 = 1 := by decide
  have z0 : pnz 0 = 0 := by decide
  obtain ⟨⟨e0, e1, -⟩, -, -⟩ := gS_i he
  have main : pw (zLoop (pb_X2_layWins_9 e) zFuel (1, pup T 15 0 1)) (fun U => (∀ c, c ≠ 15 → U c = T c) ∧ gWn U e) := by
    refine pw_lp (fun s => (1 ≤ s.1 ∧ s.1 ≤ e) ∧ (∀ c, c ≠ 15 → s.2 c = T c) ∧ gWn s.2 s.1) (fun s => (e - s.1).toNat) ?_ ⟨by dsimp only; omega, fun c hc => pup_r hc, fun x hx hl => ?_⟩ (by dsimp only; omega)
    · rintro ⟨k, U⟩ ⟨⟨k0, k1⟩, u1, u2⟩
      dsimp only at k0 k1 u1 u2
      unfold pb_X2_layWins_9
      dsimp only
      by_cases hk : k = e
      · subst hk
        exact pw_ite (fun _ => pw_some ⟨u1, u2⟩) (fun x => absurd x (by omega))
      · refine pw_ite (fun x => absurd x (by omega)) (fun _ => ?_)
        have up : ∀ v, (k ∈ g6 → v = if gW k = true then 1 else 0) → gWn (pup U 15 k v) (k + 1) := fun v hv x hx hl => by
          by_cases hxk : x = k
          · subst hxk
            rw [pup_e rfl]; exact hv hx
          · rw [pup_k hxk]; exact u2 x hx (by omega)
        rcases gF_i (k := k) (by omega) (by omega) with hs | hs
        · refine pw_beq hs (pw_ite (fun _ => pw_p32 (by omega) (by omega) (pw_some ⟨⟨by dsimp only; omega, u1, fun x hx hl => ?_⟩, by dsimp only; omega⟩)) (fun x => absurd rfl x))
          dsimp only at hl
          by_cases hxk : x = k
          · subst hxk
            have := (gS_i hx).2.1
            rw [hs] at this; cases this
          · exact u2 x hx (by omega)
        · refine pw_beq (gS_i hs).2.1 (pw_ite (fun x => absurd x (by omega)) (fun _ => ?_))
          rcases k_bite2 hs (by omega) u2 with ⟨r, c, b1, b2⟩ | ⟨b1, b2⟩
          · have hb := b2.2.1
            have hb1 := b2.1
            refine pw_beq b1 (pw_ite (fun x => absurd x (by omega)) (fun _ => pw_zlt ?_))
            rw [z1]
            refine pw_ast (by omega) (by omega) (pw_p32 (by omega) (by omega) (pw_some ⟨⟨by dsimp only; omega, fun c hc => ?_, ?_⟩, by dsimp only; omega⟩))
            · dsimp only
              rw [pup_r hc]; exact u1 c hc
            · exact up 1 (fun hx => by rw [gFi_w hs (by omega) b2]; rfl)
          · refine pw_beq b1 (pw_ite (fun _ => pw_zlt ?_) (fun x => absurd rfl x))
            rw [z0]
            refine pw_ast (by omega) (by omega) (pw_p32 (by omega) (by omega) (pw_some ⟨⟨by dsimp only; omega, fun c hc => ?_, ?_⟩, by dsimp only; omega⟩))
            · dsimp only
              rw [pup_r hc]; exact u1 c hc
            · exact up 0 (fun hx => by rw [gNo_w hs (by omega) b2]; rfl)
    · dsimp only at hl ⊢
      have := (gS_i hx).1
      rw [show x = 0 by omega, pup_e rfl, gW_0]; rfl
  obtain ⟨U, eU, u1, u2⟩ := main
  refine ⟨U, pw_to ?_, u1, u2⟩
  unfold p_X2_layWins
  refine pw_zlt ?_
  rw [z1]
  exact pw_ast (by omega) (by omega) (pw_beq eU (pw_some rfl))
end
