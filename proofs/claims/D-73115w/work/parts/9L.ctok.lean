/-! COMPONENT READING: tokens -/
set_option maxRecDepth 100000
def sgB (b : Int) : Int := if b < 128 then b else b - 256
/-- the tokens' own cell: where the tape is, its fields -/
def cTa (τ ta : Nat) (n : Int) (tp : Int → Int) (g : zGd) (m : zMm) : Prop := (zK g τ).1 = 3 + 1 ∧ zB g ≤ τ ∧ τ < zZ g ∧ zR m τ 0 = some ta ∧ ta ≠ τ ∧ ta < zZ g ∧ zK g ta = (102, 300) ∧ (∀ i, 0 ≤ i → i < n → (zI m ta i.toNat).toInt = sgB (tp i)) ∧ (zI m τ 1).toInt = n
def cTf (τ : Nat) (m : zMm) (st : aSt) (kd : Int) : Prop := (zI m τ 2).toInt = st.a ∧ (zI m τ 3).toInt = st.p ∧ (zI m τ 4).toInt = st.s ∧ (st.s = 300 → (zI m τ 5).toInt = st.n) ∧ (zI m τ 6).toInt = st.o ∧ (zI m τ 7).toInt = kd
/-- only the tokens' cell changes -/
def tkF (τ : Nat) (m m' : zMm) : Prop := (∀ q, q ≠ τ → zI m' q = zI m q) ∧ zJ m' = zJ m ∧ zR m' = zR m
theorem tkF.rf {τ : Nat} {m : zMm} : tkF τ m m := ⟨fun _ _ => rfl, rfl, rfl⟩
theorem tkF.tr {τ : Nat} {m1 m2 m3 : zMm} (h : tkF τ m1 m2) (k : tkF τ m2 m3) : tkF τ m1 m3 := ⟨fun q hq => (k.1 q hq).trans (h.1 q hq), k.2.1.trans h.2.1, k.2.2.trans h.2.2⟩
theorem tkF.up {τ : Nat} {m : zMm} {k : Nat} {v : Int32} : tkF τ m (zsI m τ k v) := ⟨fun _ hq => zup_r _ _ hq, rfl, rfl⟩
theorem f_s {τ : Nat} {m : zMm} {k : Nat} {v : Int32} : zI (zsI m τ k v) τ k = v := zup_s _ _ _ _
theorem f_k {τ : Nat} {m : zMm} {k j : Nat} {v : Int32} (h : j ≠ k) : zI (zsI m τ k v) τ j = zI m τ j := zup_k _ _ h
section
variable {τ ta : Nat} {n kd : Int} {tp : Int → Int} {g : zGd} {m : zMm} {st : aSt}
theorem cTa_c {m' : zMm} (h : cTa τ ta n tp g m) (f : tkF τ m m') (f1 : zI m' τ 1 = zI m τ 1) : cTa τ ta n tp g m' := by
  obtain ⟨h1, h2, h3, h4, h5, h6, h7, h8, h9⟩ := h
  exact ⟨h1, h2, h3, by rw [f.2.2]; exact h4, h5, h6, h7, fun i a b => by rw [f.1 ta h5]; exact h8 i a b, by rw [f1]; exact h9⟩
theorem c_byte (h : cTa τ ta n tp g m) (n300 : n ≤ 300) {i : Int32} {x : Int} (hx : i.toInt = x) (x0 : 0 ≤ x) (x1 : x < n) : ∃ v, zald 102 g m (some ta) i = some v ∧ v.toInt = sgB (tp x) :=
  ⟨_, e_ald h.2.2.2.2.2.2.1 hx x0 (by omega), h.2.2.2.2.2.2.2.1 x x0 x1⟩
theorem c_dg {v : Int32} {b : Int} (hb : 0 ≤ b ∧ b ≤ 255) (h : v.toInt = sgB b) : f_X3_isDigit v = some (if lDg b = true then 1 else 0) := by
  have h1 := i_lt h (show (48 : Int32).toInt = 48 by decide)
  have h2 := i_lt (show (57 : Int32).toInt = 57 by decide) h
  have hs : (sgB b = b ∧ b < 128) ∨ (sgB b < 0 ∧ 128 ≤ b) := by
    unfold sgB
    split <;> omega
  unfold f_X3_isDigit lDg
  simp only [decide_eq_true_eq]
  by_cases c1 : v < 48
  · have := h1.mp c1
    rw [if_pos c1, if_neg (by omega)]
  · have d1 : ¬ sgB b < 48 := fun x => c1 (h1.mpr x)
    rw [if_neg c1]
    by_cases c2 : (57 : Int32) < v
    · have h3 := h2.mp c2
      rw [if_pos c2, if_neg (by omega)]
    · have h3 : ¬ 57 < sgB b := fun x => c2 (h2.mpr x)
      rw [if_neg c2, if_pos (by omega)]
theorem c_lt {v : Int32} {b : Int} (hb : 0 ≤ b ∧ b ≤ 255) (h : v.toInt = sgB b) : f_X3_isLetter v = some (if lLt b = true then 1 else 0) := by
  have h1 := i_lt h (show (97 : Int32).toInt = 97 by decide)
  have h2 := i_le h (show (122 : Int32).toInt = 122 by decide)
  have h3 := i_lt h (show (65 : Int32).toInt = 65 by decide)
  have h4 := i_lt (show (90 : Int32).toInt = 90 by decide) h
  have hs : (sgB b = b ∧ b < 128) ∨ (sgB b < 0 ∧ 128 ≤ b) := by
    unfold sgB
    split <;> omega
  unfold f_X3_isLetter lLt zEx
  simp only [decide_eq_true_eq]
  by_cases c1 : v < 97
  · have d1 := h1.mp c1
    rw [if_pos c1]
    show (if v < 65 then some (0 : Int32) else if (90 : Int32) < v then some 0 else some 1) = _
    by_cases c3 : v < 65
    · have d3 := h3.mp c3
      rw [if_pos c3, if_neg (by omega)]
    · have d3 : ¬ sgB b < 65 := fun x => c3 (h3.mpr x)
      rw [if_neg c3]
      by_cases c4 : (90 : Int32) < v
      · have d4 := h4.mp c4
        rw [if_pos c4, if_neg (by omega)]
      · have d4 : ¬ 90 < sgB b := fun x => c4 (h4.mpr x)
        rw [if_neg c4, if_pos (by omega)]
  · have d1 : ¬ sgB b < 97 := fun x => c1 (h1.mpr x)
    rw [if_neg c1]
    by_cases c2 : v ≤ 122
    · have d2 := h2.mp c2
      rw [if_pos c2]
      show some (1 : Int32) = _
      rw [if_pos (by omega)]
    · have d2 : ¬ sgB b ≤ 122 := fun x => c2 (h2.mpr x)
      rw [if_neg c2]
      show (if v < 65 then some (0 : Int32) else if (90 : Int32) < v then some 0 else some 1) = _
      have c3 : ¬ v < 65 := fun x => by have := h3.mp x; omega
      have c4 : (90 : Int32) < v := h4.mpr (by omega)
      rw [if_neg c3, if_pos c4, if_neg (by omega)]
/-- blanks -/
theorem c_blank (hb : ∀ i, 0 ≤ i → i < n → 0 ≤ tp i ∧ tp i ≤ 255) (n300 : n ≤ 300) : ∀ (k F : Nat) (a : Int) (m : zMm), cTa τ ta n tp g m → (zI m τ 2).toInt = a → 0 ≤ a → a + (k : Int) = n → k < F → ∃ m', zLoop (b_X3_next_0 g (some τ)) F m = some m' ∧ tkF τ m m' ∧ (zI m' τ 2).toInt = lRn lBl tp k a ∧ ∀ j, j ≠ 2 → zI m' τ j = zI m τ j
  | _, 0, _, _, _, _, _, _, h => absurd h (Nat.not_lt_zero _)
  | 0, F + 1, a, m, h, ha, a0, hk, _ => by
    refine ⟨m, zLoop_l ?_, tkF.rf, ha, fun _ _ => rfl⟩
    unfold b_X3_next_0
    rw [e_gi (ci := 3) h.1, e_gi (ci := 3) h.1]
    show (if zI m τ 1 ≤ zI m τ 2 then _ else _) = _
    rw [if_pos ((i_le h.2.2.2.2.2.2.2.2 ha).mpr (by omega))]
  | k + 1, F + 1, a, m, h, ha, a0, hk, hF => by
    obtain ⟨v, ev, hv⟩ := c_byte h n300 ha a0 (by omega)
    have hba := hb a a0 (by omega)
    have e1 : lRn lBl tp (k + 1) a = if lBl (tp a) = true then lRn lBl tp k (a + 1) else a := rfl
    rw [e1]
    have h32 := i_eq hv (show (32 : Int32).toInt = 32 by decide)
    have h10 := i_eq hv (show (10 : Int32).toInt = 10 by decide)
    have hs : (sgB (tp a) = tp a ∧ tp a < 128) ∨ (sgB (tp a) < 0 ∧ 128 ≤ tp a) := by
      unfold sgB
      split <;> omega
    have pre : b_X3_next_0 g (some τ) m = zEx (σ := Unit) (if v = (32 : Int32) then (some (.inr ())) else if v = (10 : Int32) then (some (.inr ())) else (some (.inl (.inl m)))) fun _ => some (.inr (zsI m τ 2 (zI m τ 2 + 1))) := by
      unfold b_X3_next_0
      rw [e_gi (ci := 3) h.1, e_gi (ci := 3) h.1]
      show (if zI m τ 1 ≤ zI m τ 2 then _ else _) = _
      rw [if_neg (fun y => by have := (i_le h.2.2.2.2.2.2.2.2 ha).mp y; omega), e_gr (ci := 3) h.1, h.2.2.2.1]
      dsimp only [Option.bind_some]
      rw [ev]
      dsimp only [Option.bind_some]
      rw [e_pi (ci := 3) h.1 h.2.1]
      rfl
    by_cases hbl : lBl (tp a) = true
    · rw [if_pos hbl]
      have hb' : tp a = 32 ∨ tp a = 10 := of_decide_eq_true hbl
      have f1 : tkF τ m (zsI m τ 2 (zI m τ 2 + 1)) := tkF.up
      have one : (1 : Int32).toInt = 1 := by decide
      obtain ⟨m', x1, x2, x3, x4⟩ := c_blank hb n300 k F (a + 1) (zsI m τ 2 (zI m τ 2 + 1)) (cTa_c h f1 (f_k (by omega))) (by rw [f_s]; exact i_add ha one (by omega) (by omega)) (by omega) (by omega) (by omega)
      refine ⟨m', (zLoop_r ?_).trans x1, f1.tr x2, x3, fun j hj => (x4 j hj).trans (f_k hj)⟩
      rw [pre]
      by_cases c : v = 32
      · rw [if_pos c]; rfl
      · rw [if_neg c, if_pos (h10.mpr (by have d : ¬ sgB (tp a) = 32 := fun x => c (h32.mpr x); omega))]; rfl
    · rw [if_neg hbl]
      have hb' : ¬ (tp a = 32 ∨ tp a = 10) := fun x => hbl (decide_eq_true x)
      refine ⟨m, zLoop_l ?_, tkF.rf, ha, fun _ _ => rfl⟩
      rw [pre, if_neg (fun y => by have := h32.mp y; omega), if_neg (fun y => by have := h10.mp y; omega)]
      rfl
/-- letters -/
theorem c_letters (hb : ∀ i, 0 ≤ i → i < n → 0 ≤ tp i ∧ tp i ≤ 255) (n300 : n ≤ 300) : ∀ (k F : Nat) (a : Int) (m : zMm), cTa τ ta n tp g m → (zI m τ 2).toInt = a → 0 ≤ a → a + (k : Int) = n → k < F → ∃ m', zLoop (b_X3_next_96 g (some τ)) F m = some m' ∧ tkF τ m m' ∧ (zI m' τ 2).toInt = lRn lLt tp k a ∧ ∀ j, j ≠ 2 → zI m' τ j = zI m τ j
  | _, 0, _, _, _, _, _, _, h => absurd h (Nat.not_lt_zero _)
  | 0, F + 1, a, m, h, ha, a0, hk, _ => by
    refine ⟨m, zLoop_l ?_, tkF.rf, ha, fun _ _ => rfl⟩
    unfold b_X3_next_96
    rw [e_gi (ci := 3) h.1, e_gi (ci := 3) h.1]
    show (if zI m τ 1 ≤ zI m τ 2 then _ else _) = _
    rw [if_pos ((i_le h.2.2.2.2.2.2.2.2 ha).mpr (by omega))]
  | k + 1, F + 1, a, m, h, ha, a0, hk, hF => by
    obtain ⟨v, ev, hv⟩ := c_byte h n300 ha a0 (by omega)
    have hba := hb a a0 (by omega)
    have e1 : lRn lLt tp (k + 1) a = if lLt (tp a) = true then lRn lLt tp k (a + 1) else a := rfl
    rw [e1]
    have pre : b_X3_next_96 g (some τ) m = if (if lLt (tp a) = true then (1 : Int32) else 0) = 0 then some (.inl m) else some (.inr (zsI m τ 2 (zI m τ 2 + 1))) := by
      unfold b_X3_next_96
      rw [e_gi (ci := 3) h.1, e_gi (ci := 3) h.1]
      show (if zI m τ 1 ≤ zI m τ 2 then _ else _) = _
      rw [if_neg (fun y => by have := (i_le h.2.2.2.2.2.2.2.2 ha).mp y; omega), e_gr (ci := 3) h.1, h.2.2.2.1]
      dsimp only [Option.bind_some]
      rw [ev]
      dsimp only [Option.bind_some]
      rw [c_lt hba hv]
      dsimp only [Option.bind_some]
      rw [e_pi (ci := 3) h.1 h.2.1]
      rfl
    by_cases hbl : lLt (tp a) = true
    · rw [if_pos hbl]
      have f1 : tkF τ m (zsI m τ 2 (zI m τ 2 + 1)) := tkF.up
      have one : (1 : Int32).toInt = 1 := by decide
      obtain ⟨m', x1, x2, x3, x4⟩ := c_letters hb n300 k F (a + 1) (zsI m τ 2 (zI m τ 2 + 1)) (cTa_c h f1 (f_k (by omega))) (by rw [f_s]; exact i_add ha one (by omega) (by omega)) (by omega) (by omega) (by omega)
      refine ⟨m', (zLoop_r ?_).trans x1, f1.tr x2, x3, fun j hj => (x4 j hj).trans (f_k hj)⟩
      rw [pre, if_pos hbl, if_neg (by decide)]
    · rw [if_neg hbl]
      refine ⟨m, zLoop_l ?_, tkF.rf, ha, fun _ _ => rfl⟩
      rw [pre, if_neg hbl, if_pos rfl]
/-- figures -/
theorem c_figures (hb : ∀ i, 0 ≤ i → i < n → 0 ≤ tp i ∧ tp i ≤ 255) (n300 : n ≤ 300) : ∀ (k F : Nat) (a v : Int) (m : zMm), cTa τ ta n tp g m → (zI m τ 2).toInt = a → 0 ≤ a → a + (k : Int) = n → k < F → (zI m τ 5).toInt = v → 0 ≤ v → v ≤ 99999 → ∃ m', zLoop (b_X3_next_209 g (some τ)) F m = some m' ∧ tkF τ m m' ∧ (zI m' τ 2).toInt = lRn lDg tp k a ∧ (zI m' τ 5).toInt = lNm tp k a v ∧ ∀ j, j ≠ 2 → j ≠ 5 → zI m' τ j = zI m τ j
  | _, 0, _, _, _, _, _, _, _, h, _, _, _ => absurd h (Nat.not_lt_zero _)
  | 0, F + 1, a, v, m, h, ha, a0, hk, _, hv, v0, v1 => by
    refine ⟨m, zLoop_l ?_, tkF.rf, ha, hv, fun _ _ _ => rfl⟩
    unfold b_X3_next_209
    rw [e_gi (ci := 3) h.1, e_gi (ci := 3) h.1]
    show (if zI m τ 1 ≤ zI m τ 2 then _ else _) = _
    rw [if_pos ((i_le h.2.2.2.2.2.2.2.2 ha).mpr (by omega))]
  | k + 1, F + 1, a, v, m, h, ha, a0, hk, hF, hv, v0, v1 => by
    obtain ⟨c, ec, hc⟩ := c_byte h n300 ha a0 (by omega)
    have hba := hb a a0 (by omega)
    have e1 : lRn lDg tp (k + 1) a = if lDg (tp a) = true then lRn lDg tp k (a + 1) else a := rfl
    have e2 : lNm tp (k + 1) a v = if lDg (tp a) = true then lNm tp k (a + 1) (if 99999 < 10 * v + tp a - 48 then 99999 else 10 * v + tp a - 48) else v := rfl
    rw [e1, e2]
    by_cases hbl : lDg (tp a) = true
    · rw [if_pos hbl, if_pos hbl]
      have hb' : 48 ≤ tp a ∧ tp a ≤ 57 := of_decide_eq_true hbl
      have hs : sgB (tp a) = tp a := if_pos (by omega)
      rw [hs] at hc
      have one : (1 : Int32).toInt = 1 := by decide
      have ten : (10 : Int32).toInt = 10 := by decide
      have d48 : (48 : Int32).toInt = 48 := by decide
      have d9 : (99999 : Int32).toInt = 99999 := by decide
      have hw := i_sub (i_add (i_mul ten hv (by omega) (by omega)) hc (by omega) (by omega)) d48 (by omega) (by omega)
      obtain ⟨w, ew⟩ : ∃ w : Int32, w = 10 * zI m τ 5 + c - 48 := ⟨_, rfl⟩
      rw [← ew] at hw
      obtain ⟨x, ex, hx⟩ : ∃ x, f_J7_min 99999 w = some x ∧ x.toInt = if 99999 < 10 * v + tp a - 48 then 99999 else 10 * v + tp a - 48 := by
        unfold f_J7_min
        by_cases q : w < (99999 : Int32)
        · have q' := (i_lt hw d9).mp q
          exact ⟨w, by rw [if_pos q], by rw [hw, if_neg (by omega)]⟩
        · have q' : ¬ 10 * v + tp a - 48 < 99999 := fun y => q ((i_lt hw d9).mpr y)
          refine ⟨99999, by rw [if_neg q], ?_⟩
          rw [d9]
          split <;> omega
      obtain ⟨A, eA⟩ : ∃ A, A = zsI (zsI m τ 5 x) τ 2 (zI (zsI m τ 5 x) τ 2 + 1) := ⟨_, rfl⟩
      have fA : tkF τ m A := by rw [eA]; exact tkF.up.tr tkF.up
      have A5 : (zI A τ 5).toInt = if 99999 < 10 * v + tp a - 48 then 99999 else 10 * v + tp a - 48 := by rw [eA, f_k (by omega), f_s]; exact hx
      have A2 : (zI A τ 2).toInt = a + 1 := by rw [eA, f_s, f_k (by omega)]; exact i_add ha one (by omega) (by omega)
      have Aj : ∀ j, j ≠ 2 → j ≠ 5 → zI A τ j = zI m τ j := fun j p q => by rw [eA, f_k p, f_k q]
      obtain ⟨m', x1, x2, x3, x4, x5⟩ := c_figures hb n300 k F (a + 1) _ A (cTa_c h fA (Aj 1 (by omega) (by omega))) A2 (by omega) (by omega) (by omega) A5 (by split <;> omega) (by split <;> omega)
      refine ⟨m', (zLoop_r ?_).trans x1, fA.tr x2, x3, x4, fun j p q => (x5 j p q).trans (Aj j p q)⟩
      unfold b_X3_next_209
      rw [e_gi (ci := 3) h.1, e_gi (ci := 3) h.1]
      show (if zI m τ 1 ≤ zI m τ 2 then _ else _) = _
      rw [if_neg (fun y => by have := (i_le h.2.2.2.2.2.2.2.2 ha).mp y; omega), e_gr (ci := 3) h.1, h.2.2.2.1]
      dsimp only [Option.bind_some]
      rw [ec]
      dsimp only [Option.bind_some]
      rw [c_dg hba (by rw [hs]; exact hc), if_pos hbl]
      dsimp only [Option.bind_some]
      rw [if_neg (by decide), e_gi (ci := 3) h.1]
      dsimp only [Option.bind_some]
      rw [← ew, ex]
      dsimp only [Option.bind_some]
      rw [e_pi (ci := 3) h.1 h.2.1]
      dsimp only [Option.bind_some]
      rw [e_gi (ci := 3) h.1]
      dsimp only [Option.bind_some]
      rw [e_pi (ci := 3) h.1 h.2.1, eA]
      rfl
    · rw [if_neg hbl, if_neg hbl]
      refine ⟨m, zLoop_l ?_, tkF.rf, ha, hv, fun _ _ _ => rfl⟩
      unfold b_X3_next_209
      rw [e_gi (ci := 3) h.1, e_gi (ci := 3) h.1]
      show (if zI m τ 1 ≤ zI m τ 2 then _ else _) = _
      rw [if_neg (fun y => by have := (i_le h.2.2.2.2.2.2.2.2 ha).mp y; omega), e_gr (ci := 3) h.1, h.2.2.2.1]
      dsimp only [Option.bind_some]
      rw [ec]
      dsimp only [Option.bind_some]
      rw [c_dg hba hc, if_neg hbl]
      rfl
end
