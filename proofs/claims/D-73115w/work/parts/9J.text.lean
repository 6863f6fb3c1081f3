/-! READING: the model's text -/
set_option maxRecDepth 100000
section
variable {E T S : zP} {lx : Int → Int × Int × Int × Int} {tx nn : Int} {st : aSt} {Cl : List aCl} {C : aC}
set_option maxHeartbeats 1000000 in
theorem k_clause (hl : aLx lx E nn) (n300 : nn ≤ 300) (t0 : 0 ≤ tx) (t1 : tx ≤ 2043) (h : qSt E tx st Cl C T) (hv : aV nn st) (ho : st.o = 0) (hcl : Cl.length ≤ 24) (h301 : st.s ≠ 301) {res : (aF ⊕ aT) ⊕ aT} (hr : aCla lx (Cl, C, st) = some res) :
    (∃ f p T', res = .inl (.inl (f, p)) ∧ p_X2_clause T = some (f, T') ∧ f ≠ 0 ∧ T' 0 8 = p ∧ wF E tx T') ∨ ∃ Cl' C' s' T', res = .inr (Cl', C', s') ∧ p_X2_clause T = some (0, T') ∧ qSt E tx s' Cl' C' T' ∧ aV nn s' ∧ s'.o = 0 ∧ st.p < s'.p ∧ Cl'.length ≤ 24 := by
  obtain ⟨h1, h2, h3, h4, h5, h6, h7, h8, h9, h10, h11⟩ := h
  have wT : wF E tx T := ⟨h2, h3, h10⟩
  have al : pald T 3 2724 tx = some (Cl.length : Int) := by rw [← h7]; exact if_pos (by omega)
  unfold aCla at hr
  dsimp only at hr
  rw [if_neg h301] at hr
  by_cases hs : st.s < 200 ∨ 207 < st.s
  · rw [if_pos hs] at hr
    cases hr
    refine Or.inl ⟨1, st.p, T, rfl, ?_, by omega, h1.2.1, wT⟩
    refine pw_to ?_
    unfold p_X2_clause
    refine pw_beq (k_sortOf h1) ?_
    rw [if_pos hs]
    exact pw_ite (fun y => absurd y (by omega)) (fun _ => pw_some rfl)
  rw [if_neg hs] at hr
  obtain ⟨w, ew⟩ : ∃ w, w = st.s - 200 := ⟨_, rfl⟩
  rw [← ew] at hr
  have hso : p_X2_sortOf T = some w := by rw [k_sortOf h1, if_neg hs, ew]
  have hon : w ≤ 1 → p_X2_has (T 0 19) w = some (if aHas Cl w = true then 1 else 0) := fun hw => by
    rw [k_has2, h6, aOnce_h Cl (by omega)]
  by_cases htw : st.s ≤ 201 ∧ aHas Cl w = true
  · rw [if_pos htw] at hr
    cases hr
    refine Or.inl ⟨4, st.p, T, rfl, ?_, by omega, h1.2.1, wT⟩
    have ex : (if 1 < w then (some (.inr ()) : Option ((Int × zP) ⊕ Unit)) else (zlt (T 0 19) fun v3 => (p_X2_has v3 w).bind fun v4 => if v4 = 0 then (some (.inr ())) else (some (.inl (4, T))))) = some (.inl (4, T)) := by
      rw [if_neg (by omega)]
      dsimp only [zlt]
      rw [hon (by omega), if_pos htw.2]
      rfl
    refine pw_to ?_
    unfold p_X2_clause
    refine pw_beq hso (pw_ite (fun _ => ?_) (fun y => absurd y (by omega)))
    rw [ex]
    exact pw_exl rfl
  rw [if_neg htw] at hr
  have ex : (if 1 < w then (some (.inr ()) : Option ((Int × zP) ⊕ Unit)) else (zlt (T 0 19) fun v3 => (p_X2_has v3 w).bind fun v4 => if v4 = 0 then (some (.inr ())) else (some (.inl (4, T))))) = some (.inr ()) := by
    by_cases hw : 1 < w
    · rw [if_pos hw]
    · rw [if_neg hw]
      dsimp only [zlt]
      rw [hon (by omega), if_neg (fun y => htw ⟨by omega, y⟩)]
      rfl
  by_cases h24 : (Cl.length : Int) = 24
  · rw [if_pos h24] at hr
    cases hr
    refine Or.inl ⟨6, st.p, T, rfl, ?_, by omega, h1.2.1, wT⟩
    refine pw_to ?_
    unfold p_X2_clause
    refine pw_beq hso (pw_ite (fun _ => ?_) (fun y => absurd y (by omega)))
    rw [ex]
    refine pw_exr (pw_zlt ?_)
    rw [h4]
    refine pw_beq al ?_
    exact pw_ite (fun _ => pw_some rfl) (fun y => absurd h24 y)
  rw [if_neg h24] at hr
  have hcl2 : Cl.length < 24 := by omega
  -- on
  obtain ⟨o, eo⟩ : ∃ o, o = aOnce (Cl ++ [(w, 0, 0)]) := ⟨_, rfl⟩
  obtain ⟨A, eA⟩ : ∃ A, A = pup (if 1 < w then T else pup T 0 19 o) 0 14 w := ⟨_, rfl⟩
  have Ac : ∀ c, c ≠ 0 → A c = T c := fun c hc => by
    rw [eA, pup_r hc]
    split
    · rfl
    · exact pup_r hc
  have Ai : ∀ i, i ≠ 14 → i ≠ 19 → A 0 i = T 0 i := fun i a b => by
    rw [eA, pup_k a]
    split
    · rfl
    · exact pup_k b
  have A14 : A 0 14 = w := by rw [eA, pup_e rfl]
  have A19 : A 0 19 = o := by
    rw [eA, pup_k (by omega)]
    by_cases hw : 1 < w
    · rw [if_pos hw, h6, eo]; exact (aOnce_o Cl (by omega) 0 0).symm
    · rw [if_neg hw, pup_e rfl]
  have eS9 : ((if 1 < w then (some (T)) else (zlt (T 0 19) fun v10 => zlt (pshl 1 w) fun x1 => zlt (por v10 x1) fun x2 => zlt (pup T 0 19 x2) fun S11 => some (S11)) : Option zP)) = some (if 1 < w then T else pup T 0 19 o) := by
    by_cases hw : 1 < w
    · rw [if_pos hw, if_pos hw]
    · rw [if_neg hw, if_neg hw]
      dsimp only [zlt]
      rw [h6, aOnce_p Cl (w := w) (by omega) 0 0 (fun y => htw ⟨by omega, y⟩), ← eo]
  obtain ⟨B, eB, f1, f2, f3⟩ := k_next' hl (T := A) (st := st) (tR_c h1 (fun i _ => Ai i (by omega) (by omega)) (Ac 4 (by omega))) (by rw [Ac 4 (by omega)]; exact h2 4 (by omega) (by omega) (by omega)) (by rw [Ai 4 (by omega) (by omega)]; exact h3 4 (by omega)) hv
  have hvn := aV_nx hl hv
  have hnp := nx_p hl hv
  have hadv := hv.2.1 h301
  obtain ⟨s1, es1⟩ : ∃ s1, s1 = aNx lx st := ⟨_, rfl⟩
  have o1 : s1.o = 0 := by rw [es1]; exact ho
  rw [← es1] at f3 hvn hnp hr
  obtain ⟨x, exx⟩ : ∃ x, x = tx + 1 + 3 * (Cl.length : Int) := ⟨_, rfl⟩
  obtain ⟨D, eD⟩ : ∃ D, D = pup B 3 x w := ⟨_, rfl⟩
  have D3 : ∀ j, j ≠ x → D 3 j = T 3 j := fun j hj => by rw [eD, pup_k hj, f1 3 (by omega), Ac 3 (by omega)]
  have D0 : ∀ i, i < 7 ∨ 11 < i → D 0 i = A 0 i := fun i hi => by rw [eD, pup_c (by omega)]; exact f2 i hi
  have Dc : ∀ c, c ≠ 0 → c ≠ 3 → D c = T c := fun c a b => by rw [eD, pup_r b, f1 c a, Ac c a]
  have qa : qA E tx s1 Cl C w D := by
    refine ⟨tR_c f3 (fun i _ => by rw [eD, pup_c (by omega)]) (by rw [eD, pup_r (by omega)]), ⟨fun c a b d => (Dc c a b).trans (h2 c a b d), fun i hi => by rw [D0 i (by omega), Ai i (by omega) (by omega)]; exact h3 i hi, fun j hj => (D3 j (by omega)).trans (h10 j hj)⟩, ?_, ?_, ?_, ?_, ?_, fun i c hi => ?_, ?_, fun i z hi => ?_, by omega⟩
    · rw [D0 12 (by omega), Ai 12 (by omega) (by omega)]; exact h4
    · rw [D0 13 (by omega), Ai 13 (by omega) (by omega)]; exact h5
    · rw [D0 14 (by omega)]; exact A14
    · rw [D0 19 (by omega), A19, eo]
    · rw [D3 _ (by omega)]; exact h7
    · have hil : i < Cl.length := by
        rcases Nat.lt_or_ge i Cl.length with y | y
        · exact y
        · rw [List.getElem?_eq_none y] at hi; cases hi
      rw [D3 _ (by omega), D3 _ (by omega), D3 _ (by omega)]
      exact h8 i c hi
    · rw [← exx, eD, pup_e rfl]
    · have hil : i < C.length := by
        rcases Nat.lt_or_ge i C.length with y | y
        · exact y
        · rw [List.getElem?_eq_none y] at hi; cases hi
      rw [D3 _ (by omega), D3 _ (by omega)]
      exact h9 i z hi
  have kdw : st.s - 200 = w := ew.symm
  obtain ⟨r, hrb, hr⟩ := bind_z hr
  have body := k_body hl n300 t0 t1 hcl2 (kd := st.s) (by omega) (by omega) (by rw [kdw]; exact qa) hvn o1 hrb
  rw [kdw, ← exx] at body
  have pre : ∀ f U X, p_X2_body D w x = some (f, U) → ((if f = 0 then (zlt (U 0 12) fun v21 => (pald U 3 2724 v21).bind fun v22 => p32 (v22 + 1) fun x3 => (past U 3 2724 v21 x3).bind fun S23 => zlt (S23 0 9) fun v24 => if v24 = 59 then ((p_X2_nextToken S23).bind fun S25 => some ((0, S25))) else (some ((1, S23)))) else (some ((f, U)))) = some X) → p_X2_clause T = some X := fun f U X hb hX => by
    refine pw_to ?_
    unfold p_X2_clause
    refine pw_beq hso (pw_ite (fun _ => ?_) (fun y => absurd y (by omega)))
    rw [ex]
    refine pw_exr (pw_zlt ?_)
    rw [h4]
    refine pw_beq al (pw_ite (fun y => absurd y h24) (fun _ => pw_beq eS9 (pw_zlt ?_)))
    rw [← eA]
    refine pw_beq eB (pw_zlt ?_)
    rw [f2 12 (by omega), Ai 12 (by omega) (by omega), h4]
    refine pw_p32 (by omega) (by omega) ?_
    rw [← exx]
    refine pw_ast (by omega) (by omega) ?_
    rw [← eD]
    refine pw_beq hb ?_
    exact ⟨X, hX, rfl⟩
  rcases body with ⟨f, p, T', b1, b2, b3, b4, b5⟩ | ⟨v, u, C', s', T', b1, b2, b3, b4, b5, b6⟩
  · subst b1
    cases hr
    refine Or.inl ⟨f, p, T', rfl, pre f T' _ b2 ?_, b3, b4, b5⟩
    rw [if_neg b3]
  · subst b1
    obtain ⟨T1, e1, e2, e3, e4, e5, e6, e7⟩ := qB_end hl t0 t1 hcl2 b3 b4
    have hU12 : T' 0 12 = tx := b3.2.2.1
    have pre2 : ∀ X, ((if T1 0 9 = 59 then ((p_X2_nextToken T1).bind fun S25 => some ((0, S25))) else (some ((1, T1)))) = some X) → p_X2_clause T = some X := fun X hX => by
      refine pre 0 T' X b2 ?_
      rw [if_pos rfl]
      refine pw_to (pw_zlt ?_)
      rw [hU12]
      refine pw_beq e2 (pw_p32 (by omega) (by omega) (pw_beq e3 (pw_zlt ?_)))
      exact ⟨X, hX, rfl⟩
    dsimp only at hr
    unfold aWt at hr
    by_cases h59 : s'.s = 59
    · rw [if_pos h59] at hr
      cases hr
      obtain ⟨T2, e8, e9⟩ := e7 h59
      have hvn2 := aV_nx hl b4
      have hnp2 := nx_p hl b4
      have had2 := b4.2.1 (by omega)
      refine Or.inr ⟨_, C', aNx lx s', T2, rfl, pre2 _ ?_, e9, hvn2, b5, by omega, ?_⟩
      · rw [if_pos (e4.mpr h59), e8]; rfl
      · rw [List.length_append, List.length_singleton]; omega
    · rw [if_neg h59] at hr
      cases hr
      refine Or.inl ⟨1, s'.p, T1, rfl, pre2 _ ?_, by omega, e5, e6⟩
      rw [if_neg (fun y => h59 (e4.mp y))]
theorem k_clauses (hl : aLx lx E nn) (n300 : nn ≤ 300) (t0 : 0 ≤ tx) (t1 : tx ≤ 2043) : ∀ (F G : Nat) (Cl : List aCl) (C : aC) (st : aSt) (T : zP) (y : aF ⊕ aT), zLoop (aCla lx) F (Cl, C, st) = some y → (nn - st.p).toNat < G → qSt E tx st Cl C T → aV nn st → st.o = 0 → Cl.length ≤ 24 → (∃ f p T', y = .inl (f, p) ∧ zLoop pb_X2_readText_43 G T = some (.inl (f, T')) ∧ f ≠ 0 ∧ T' 0 8 = p ∧ wF E tx T') ∨ ∃ Cl' C' s' T', y = .inr (Cl', C', s') ∧ zLoop pb_X2_readText_43 G T = some (.inr T') ∧ qSt E tx s' Cl' C' T' ∧ Cl'.length ≤ 24 ∧ aV nn s'
  | 0, _, _, _, _, _, _, h, _, _, _, _, _ => by cases h
  | _, 0, _, _, _, _, _, _, h, _, _, _, _ => absurd h (Nat.not_lt_zero _)
  | F + 1, G + 1, Cl, C, st, T, y, h, hG, hq, hv, ho, hcl => by
    rw [zLoop_s] at h
    have r0 := hq.1.2.2.1
    by_cases h301 : st.s = 301
    · have e : aCla lx (Cl, C, st) = some (.inl (.inr (Cl, C, st))) := by
        unfold aCla
        dsimp only
        rw [if_pos h301]
      rw [e] at h
      cases h
      refine Or.inr ⟨Cl, C, st, T, rfl, zLoop_l ?_, hq, hcl, hv⟩
      unfold pb_X2_readText_43
      dsimp only [zlt]
      rw [if_pos (r0.mpr h301)]
    · cases e : aCla lx (Cl, C, st) with
      | none => rw [e] at h; cases h
      | some res =>
        rw [e] at h
        have hb : ∀ v T', p_X2_clause T = some (v, T') → pb_X2_readText_43 T = if v = 0 then some (.inr T') else some (.inl (.inl (v, T'))) := fun v T' hc => by
          unfold pb_X2_readText_43
          dsimp only [zlt]
          rw [if_neg (fun x => h301 (r0.mp x)), hc]
          rfl
        rcases k_clause hl n300 t0 t1 hq hv ho hcl h301 e with ⟨f, p, T', a1, a2, a3, a4, a5⟩ | ⟨Cl', C', s', T', a1, a2, a3, a4, a5, a6, a7⟩
        · subst a1
          cases h
          have hb := hb f T' a2
          rw [if_neg a3] at hb
          exact Or.inl ⟨f, p, T', rfl, zLoop_l hb, a3, a4, a5⟩
        · subst a1
          have h : zLoop (aCla lx) F (Cl', C', s') = some y := h
          have hb := hb 0 T' a2
          rw [if_pos rfl] at hb
          rw [zLoop_r hb]
          have hv4 := a4.1
          exact k_clauses hl n300 t0 t1 F G Cl' C' s' T' y h (by omega) a3 a4 a5 a7
/-- a text that lies there -/
def qTx (U : zP) (tx : Int) (Cl : List aCl) (C : aC) : Prop := U 3 tx = (Cl.length : Int) ∧ Cl.length ≤ 24 ∧ C.length ≤ 300 ∧ (∀ (i : Nat) (c : aCl), Cl[i]? = some c → U 3 (tx + 1 + 3 * (i : Int)) = c.1 ∧ U 3 (tx + 2 + 3 * (i : Int)) = c.2.1 ∧ ((c.1 ≤ 2 ∨ c.1 = 4 ∨ c.1 = 6) → U 3 (tx + 3 + 3 * (i : Int)) = c.2.2)) ∧ pCd U tx C
end
theorem k_text {S : zP} {nn t : Int} (n0 : 0 ≤ nn) (n300 : nn ≤ 300) (hn : S 0 4 = nn) (ht : ∀ i, 0 ≤ i → i < nn → 0 ≤ S 4 i ∧ S 4 i ≤ 255) (et : S 1 1 = t) (t0 : 0 ≤ t) (t3 : t ≤ 3) {y : aF ⊕ aT} (hy : aRd (lx (S 4) nn) = some y) :
    (∃ f p U, y = .inl (f, p) ∧ p_X2_text S = some (-1, U) ∧ U 0 5 = f ∧ U 0 6 = p ∧ U 0 4 = 0 ∧ (∀ c, c ≠ 0 → c ≠ 3 → c ≠ 5 → U c = S c) ∧ (∀ i, i < 4 ∨ 19 < i → U 0 i = S 0 i) ∧ (∀ j, j < 681 * t ∨ 681 * t + 681 ≤ j → U 3 j = S 3 j)) ∨
    ∃ Cl C s' U, y = .inr (Cl, C, s') ∧ p_X2_text S = some (t, U) ∧ U 0 5 = 0 ∧ U 0 6 = -1 ∧ U 0 4 = 0 ∧ (∀ c, c ≠ 0 → c ≠ 1 → c ≠ 3 → c ≠ 5 → U c = S c) ∧ (∀ i, i < 4 ∨ 19 < i → U 0 i = S 0 i) ∧ (∀ j, j < 681 * t ∨ 681 * t + 681 ≤ j → U 3 j = S 3 j) ∧ U 1 1 = t + 1 ∧ (∀ i, i ≠ 1 → U 1 i = S 1 i) ∧ qTx U (681 * t) Cl C := by
  obtain ⟨tx, etx⟩ : ∃ tx, tx = 681 * t := ⟨_, rfl⟩
  rw [← etx]
  obtain ⟨A, eA⟩ : ∃ A, A = pup (pup (pup (pup (pup S 0 12 tx) 3 tx 0) 0 13 0) 0 19 0) 0 7 0 := ⟨_, rfl⟩
  have Ac : ∀ c, c ≠ 0 → c ≠ 3 → A c = S c := fun c a b => by rw [eA, pup_r a, pup_r a, pup_r a, pup_r b, pup_r a]
  have Ai : ∀ i, i ≠ 12 → i ≠ 13 → i ≠ 19 → i ≠ 7 → A 0 i = S 0 i := fun i a b c d => by rw [eA, pup_k d, pup_k c, pup_k b, pup_c (by omega), pup_k a]
  have A3 : ∀ j, j ≠ tx → A 3 j = S 3 j := fun j hj => by rw [eA, pup_c (by omega), pup_c (by omega), pup_c (by omega), pup_k hj, pup_c (by omega)]
  have A7 : A 0 7 = 0 := by rw [eA, pup_e rfl]
  have A12 : A 0 12 = tx := by rw [eA, pup_k (by omega), pup_k (by omega), pup_k (by omega), pup_c (by omega), pup_e rfl]
  have A13 : A 0 13 = 0 := by rw [eA, pup_k (by omega), pup_k (by omega), pup_e rfl]
  have A19 : A 0 19 = 0 := by rw [eA, pup_k (by omega), pup_e rfl]
  have A3t : A 3 tx = 0 := by rw [eA, pup_c (by omega), pup_c (by omega), pup_c (by omega), pup_e rfl]
  have hl : aLx (lx (S 4) nn) S nn := aLx_i n0 n300 hn ht
  obtain ⟨B, eB, f1, f2, f3⟩ := hl.2 A 0 0 (Ac 4 (by omega) (by omega)) (Ai 4 (by omega) (by omega) (by omega) (by omega)) A7 (Int.le_refl _) n0
  have hb := hl.1 0 (Int.le_refl _) n0
  have hv : aV nn (aNx (lx (S 4) nn) (0, 0, 0, 0, 0)) := ⟨⟨hb.1, hb.2.1, hb.2.2.1⟩, hb.2.2.2, by show (0 : Int) ≤ 0; omega, by show (0 : Int) ≤ 8; omega⟩
  have hq : qSt S tx (aNx (lx (S 4) nn) (0, 0, 0, 0, 0)) [] [] B := by
    refine ⟨f3, fun c a b d => (f1 c a).trans (Ac c a b), fun i hi => (f2 i (by omega)).trans (Ai i (by omega) (by omega) (by omega) (by omega)), (f2 12 (by omega)).trans A12, (f2 13 (by omega)).trans A13, (f2 19 (by omega)).trans A19, by rw [f1 3 (by omega)]; exact A3t, fun i c hi => (by cases hi), fun i z hi => (by cases hi), fun j hj => by rw [f1 3 (by omega)]; exact A3 j (by omega), hb.1⟩
  have rd : ∀ f X, (zEx (σ := zP) (zLoop pb_X2_readText_43 zFuel B) fun S12 => some ((0, S12))) = some (f, X) → p_X2_readText S = some (f, X) := fun f X hX => by
    refine pw_to ?_
    unfold p_X2_readText
    refine pw_ald (by omega) (by omega) ?_
    rw [et]
    refine pw_p32 (by omega) (by omega) ?_
    rw [← etx]
    refine pw_zlt (pw_zlt ?_)
    rw [pup_e rfl]
    refine pw_ast (by omega) (by omega) (pw_zlt (pw_zlt (pw_zlt ?_)))
    rw [← eA]
    refine pw_beq eB ?_
    exact ⟨_, hX, rfl⟩
  have tt : ∀ f X Z, p_X2_readText S = some (f, X) → (zlt (pup X 0 5 f) fun S5 => zlt (S5 0 5) fun v6 => ((if v6 = 0 then (some ((-1))) else (zlt (S5 0 8) fun v9 => some (v9)) : Option Int)).bind fun v8 => zlt (pup S5 0 6 v8) fun S10 => zlt (pup S10 0 4 0) fun S11 => zlt (S11 0 5) fun v12 => if v12 = 0 then ((pald S11 1 1450 1).bind fun v14 => p32 (v14 + 1) fun x1 => (past S11 1 1450 1 x1).bind fun S15 => (pald S15 1 1450 1).bind fun v17 => p32 (v17 - 1) fun x2 => some ((x2, S15))) else (some (((-1), S11)))) = some Z → p_X2_text S = some Z := fun f X Z e hZ => by
    refine pw_to ?_
    unfold p_X2_text
    refine pw_ald (by omega) (by omega) ?_
    rw [et]
    refine pw_ite (fun y => absurd y (by omega)) (fun _ => pw_beq e ?_)
    exact ⟨_, hZ, rfl⟩
  rcases k_clauses hl n300 (by omega) (by omega) zFuel zFuel [] [] _ B y hy (by have := hv.1; unfold zFuel; omega) hq hv rfl (by decide) with ⟨f, p, T', a1, a2, a3, a4, a5⟩ | ⟨Cl, C, s', T', a1, a2, a3, a4, a5⟩
  · refine Or.inl ⟨f, p, pup (pup (pup T' 0 5 f) 0 6 p) 0 4 0, a1, tt f T' _ (rd f T' (by rw [a2]; rfl)) ?_, by (simp (disch := omega) only [pup_x, pup_k, pup_c, true_and, and_true]), by (simp (disch := omega) only [pup_x, pup_k, pup_c, true_and, and_true]), by (simp (disch := omega) only [pup_x, pup_k, pup_c, true_and, and_true]), fun c a b d => ?_, fun i hi => ?_, fun j hj => ?_⟩
    · dsimp only [zlt]
      rw [pup_e rfl, if_neg a3]
      dsimp only [Option.bind_some]
      rw [pup_k (by omega : (8 : Int) ≠ 5), a4, pup_k (by omega : (5 : Int) ≠ 4), pup_k (by omega : (5 : Int) ≠ 6), pup_e rfl, if_neg a3]
    · rw [pup_r a, pup_r a, pup_r a]; exact a5.1 c a b d
    · rw [pup_k (by omega), pup_k (by omega), pup_k (by omega)]; exact a5.2.1 i (by omega)
    · rw [pup_c (by omega), pup_c (by omega), pup_c (by omega)]; exact a5.2.2 j hj
  · obtain ⟨q1, q2, q3, q4, q5, q6, q7, q8, q9, q10, q11⟩ := a3
    obtain ⟨X, eX⟩ : ∃ X, X = pup (pup (pup T' 0 5 0) 0 6 (-1)) 0 4 0 := ⟨_, rfl⟩
    have Xc : ∀ c, c ≠ 0 → X c = T' c := fun c a => by rw [eX, pup_r a, pup_r a, pup_r a]
    have X11 : X 1 1 = t := by rw [Xc 1 (by omega), q2 1 (by omega) (by omega) (by omega)]; exact et
    have hC300 : C.length ≤ 300 := by
      have := a5.1
      omega
    refine Or.inr ⟨Cl, C, s', pup X 1 1 (t + 1), a1, tt 0 T' _ (rd 0 T' (by rw [a2]; rfl)) ?_, ?_, ?_, ?_, fun c a b d e => ?_, fun i hi => ?_, fun j hj => ?_, by (simp (disch := omega) only [pup_x, pup_k, pup_c, true_and, and_true]), fun i hi => ?_, ?_, a4, hC300, fun i c hi => ?_, fun i z hi => ?_⟩
    · dsimp only [zlt]
      rw [pup_e rfl, if_pos rfl]
      dsimp only [Option.bind_some]
      rw [← eX]
      have x5 : X 0 5 = 0 := by rw [eX, pup_k (by omega), pup_k (by omega), pup_e rfl]
      have al : pald X 1 1450 1 = some t := by rw [← X11]; exact if_pos (by omega)
      have pa : past X 1 1450 1 (t + 1) = some (pup X 1 1 (t + 1)) := if_pos (by omega)
      have al2 : pald (pup X 1 1 (t + 1)) 1 1450 1 = some (t + 1) := by
        have : pup X 1 1 (t + 1) 1 1 = t + 1 := pup_e rfl
        rw [← this]; exact if_pos (by omega)
      rw [if_pos x5, al]
      dsimp only [Option.bind_some]
      rw [p32_n (by omega) (by omega), pa]
      dsimp only [Option.bind_some]
      rw [al2]
      dsimp only [Option.bind_some]
      rw [p32_n (by omega) (by omega), show t + 1 - 1 = t by omega]
    · rw [pup_c (by omega), eX]; (simp (disch := omega) only [pup_x, pup_k, pup_c, true_and, and_true])
    · rw [pup_c (by omega), eX]; (simp (disch := omega) only [pup_x, pup_k, pup_c, true_and, and_true])
    · rw [pup_c (by omega), eX]; (simp (disch := omega) only [pup_x, pup_k, pup_c, true_and, and_true])
    · rw [pup_r b, Xc c a]; exact q2 c a d e
    · rw [pup_c (by omega), eX, pup_k (by omega), pup_k (by omega), pup_k (by omega)]; exact q3 i (by omega)
    · rw [pup_c (by omega), Xc 3 (by omega)]; exact q10 j hj
    · rw [pup_k hi, Xc 1 (by omega), q2 1 (by omega) (by omega) (by omega)]
    · rw [pup_c (by omega), Xc 3 (by omega)]; exact q7
    · rw [pup_c (by omega), pup_c (by omega), pup_c (by omega), Xc 3 (by omega)]; exact q8 i c hi
    · rw [pup_c (by omega), pup_c (by omega), Xc 3 (by omega)]; exact q9 i z hi
