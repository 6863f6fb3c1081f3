/-! READING: the model's tokens are those -/
set_option maxRecDepth 100000
def tTail (A : zP) (p : Int) : Option zP := ((p_X2_byteAt A p).bind fun v15 => if 0 ≤ v15 then ((p_X2_isFigure v15).bind fun v16 => if v16 = 0 then ((p_X2_isLetterByte v15).bind fun v17 => if v17 = 0 then ((p_X2_isSign v15).bind fun v18 => ((if v18 = 0 then (some (3)) else (some (v15)) : Option Int)).bind fun v20 => zlt (pup A 0 9 v20) fun S21 => zlt (S21 0 7) fun v22 => p32 (v22 + 1) fun x1 => zlt (pup S21 0 7 x1) fun S23 => zEx (σ := Unit) (if v15 = 60 then (some (.inr ())) else (if v15 = 62 then (some (.inr ())) else (some (.inl S23)))) fun _ => zlt (S23 0 7) fun v25 => (p_X2_byteAt S23 v25).bind fun v26 => if v26 = 61 then (((if v15 = 60 then (some (4)) else (some (5)) : Option Int)).bind fun v28 => zlt (pup S23 0 9 v28) fun S29 => zlt (S29 0 7) fun v30 => p32 (v30 + 1) fun x2 => zlt (pup S29 0 7 x2) fun S31 => some (S31)) else (some (S23))) else (zlt (pup A 0 9 2) fun S32 => zlt (pup S32 0 11 0) fun S33 => (zLoop pb_X2_nextToken_168 zFuel S33).bind fun S35 => some (S35))) else (zlt (pup A 0 9 1) fun S50 => zlt (pup S50 0 10 0) fun S51 => (zLoop pb_X2_nextToken_85 zFuel S51).bind fun S53 => some (S53))) else (zlt (pup A 0 9 0) fun S69 => some (S69)))
def tL : List Int := [40, 41, 42, 43, 45, 47, 59, 60, 61, 62, 35]
section
variable {T E0 : zP} {tp : Int → Int} {n : Int}
theorem k_noReach {k : Int} (h9 : T 0 9 = k) (hk : k ≠ 2) : p_X2_isReaches T = some 0 := by
  unfold p_X2_isReaches
  dsimp only [zlt]
  rw [if_neg (by omega)]
theorem tR_mk {s num p a o k : Int} (h7 : T 0 7 = a) (h8 : T 0 8 = p) (h9 : T 0 9 = k) (hk : k ≠ 2) (hs : s < 200 ∨ 225 ≤ s) (e0 : k = 0 ↔ s = 301) (e1 : k = 1 ↔ s = 300) (hn : s = 300 → (T 0 10 = num ∧ 0 ≤ num ∧ num ≤ 99999) ∨ (99999 < T 0 10 ∧ num = 99999)) (eL : ∀ c, c ∈ tL → (k = c ↔ s = c)) (e4 : k = 4 ↔ s = 303) (e5 : k = 5 ↔ s = 304) : tR T (s, num, p, a, o) := by
  refine ⟨h7, h8, by rw [h9]; exact e0, by rw [h9]; exact e1, hn, fun c hc => by rw [h9]; exact eL c hc, by rw [h9]; exact e4, by rw [h9]; exact e5, fun q hq => ?_, ?_⟩
  · have := tw_3 q hq
    rw [h9]
    refine ⟨fun x => absurd x.1 hk, fun x => ?_⟩
    have x : s = q.1 := x
    omega
  · rw [k_noReach h9 hk]
    show _ = some (if s = 200 then 1 else 0)
    rw [if_neg (by omega)]
theorem k_pre (n0 : 0 ≤ n) (n300 : n ≤ 300) {a : Int} (h4 : T 4 = tp) (hn : T 0 4 = n) (ha : T 0 7 = a) (a0 : 0 ≤ a) (a1 : a ≤ n) : ∃ A p, p = lRn lBl tp (n - a).toNat a ∧ (a ≤ p ∧ p ≤ n) ∧ tFr T A ∧ A 4 = tp ∧ A 0 4 = n ∧ A 0 7 = p ∧ A 0 8 = p ∧ p_X2_byteAt A p = some (lB tp n p) ∧ ∀ X, tTail A p = some X → p_X2_nextToken T = some X := by
  obtain ⟨T1, e1, f1, g1, -⟩ := m_blank (tp := tp) n300 (n - a).toNat zFuel a T h4 hn ha a0 (by omega) (by unfold zFuel; omega)
  have hp := lRn_b lBl tp (n - a).toNat a
  obtain ⟨p, ep⟩ : ∃ p, p = lRn lBl tp (n - a).toNat a := ⟨_, rfl⟩
  rw [← ep] at g1 hp
  obtain ⟨A, eA⟩ : ∃ A, A = pup T1 0 8 p := ⟨_, rfl⟩
  have fA : tFr T A := by rw [eA]; exact f1.tr (tFr.up (by omega))
  have A4 : A 4 = tp := (fA.1 4 (by omega)).trans h4
  have An : A 0 4 = n := (fA.2 4 (by omega)).trans hn
  have A7 : A 0 7 = p := by rw [eA, pup_k (by omega)]; exact g1
  have A8 : A 0 8 = p := by rw [eA, pup_e rfl]
  have hB := k_byteAt A4 An n300 (k := p) (by omega)
  have pre : ∀ X : zP, tTail A p = some X → p_X2_nextToken T = some X := by
    intro X hX
    unfold p_X2_nextToken
    rw [e1]
    unfold tTail at hX
    dsimp only [Option.bind_some, zlt] at hX ⊢
    rw [g1, ← eA, A7]
    exact hX
  exact ⟨A, p, ep, ⟨hp.1, by omega⟩, fA, A4, An, A7, A8, hB, pre⟩
theorem k_tEnd (n0 : 0 ≤ n) (n300 : n ≤ 300) (ht : ∀ i, 0 ≤ i → i < n → 0 ≤ tp i ∧ tp i ≤ 255) {A : zP} {p : Int} (p0 : 0 ≤ p) (hpn : p ≤ n) (A4 : A 4 = tp) (An : A 0 4 = n) (A7 : A 0 7 = p) (A8 : A 0 8 = p) (hB : p_X2_byteAt A p = some (lB tp n p)) (o : Int) (h1 : n ≤ p) : ∃ T', tTail A p = some T' ∧ tFr A T' ∧ tR T' (301, 0, p, p, o) := by
  have hb : lB tp n p = -1 := if_pos h1
  rw [hb] at hB
  refine ⟨pup A 0 9 0, ?_, tFr.up (by omega), ?_⟩
  · unfold tTail
    rw [hB]; rfl
  · show tR _ (301, 0, p, p, o)
    exact tR_mk (k := 0) ((pup_k (by omega)).trans A7) ((pup_k (by omega)).trans A8) (pup_e rfl) (by omega) (by omega) (by omega) (by omega) (fun x => absurd x (by omega)) (by decide) (by omega) (by omega)
theorem k_tNum (n0 : 0 ≤ n) (n300 : n ≤ 300) (ht : ∀ i, 0 ≤ i → i < n → 0 ≤ tp i ∧ tp i ≤ 255) {A : zP} {p : Int} (p0 : 0 ≤ p) (hpn : p ≤ n) (A4 : A 4 = tp) (An : A 0 4 = n) (A7 : A 0 7 = p) (A8 : A 0 8 = p) (hB : p_X2_byteAt A p = some (lB tp n p)) (o : Int) (h1 : ¬ n ≤ p) (h2 : lDg (tp p) = true) : ∃ T', tTail A p = some T' ∧ tFr A T' ∧ tR T' (300, lNm tp (n - p).toNat p 0, p, lRn lDg tp (n - p).toNat p, o) := by
  have hb : lB tp n p = tp p := if_neg h1
  rw [hb] at hB
  have htp := ht p (by omega) (by omega)
  obtain ⟨T2, e2, f2, g2, x2, y2, z2⟩ := m_digits (tp := tp) n300 (n - p).toNat zFuel p 0 0 (pup (pup A 0 9 1) 0 10 0) (by rw [pup_r (by omega), pup_r (by omega)]; exact A4) (by rw [pup_k (by omega), pup_k (by omega)]; exact An) (by rw [pup_k (by omega), pup_k (by omega)]; exact A7) (by omega) (by omega) (by unfold zFuel; omega) (pup_e rfl) (Or.inl ⟨rfl, by omega, by omega⟩)
  have w9 : T2 0 9 = 1 := z2.trans (by rw [pup_k (by omega), pup_e rfl])
  have w8 : T2 0 8 = p := y2.trans (by rw [pup_k (by omega), pup_k (by omega)]; exact A8)
  refine ⟨T2, ?_, ((tFr.up (by omega)).tr (tFr.up (by omega))).tr f2, ?_⟩
  · refine pw_to ?_
    unfold tTail
    refine pw_beq hB (pw_ite (fun _ => pw_beq (k_fig _) ?_) (fun x => absurd htp.1 x))
    rw [if_pos h2]
    exact pw_ite (fun x => absurd x (by omega)) (fun _ => pw_zlt (pw_zlt (pw_beq e2 (pw_some rfl))))
  · show tR _ (300, lNm tp (n - p).toNat p 0, p, lRn lDg tp (n - p).toNat p, o)
    exact tR_mk (k := 1) g2 w8 w9 (by omega) (by omega) (by omega) (by omega) (fun _ => x2) (by decide) (by omega) (by omega)
set_option maxHeartbeats 1000000 in
theorem k_tWord (n0 : 0 ≤ n) (n300 : n ≤ 300) (ht : ∀ i, 0 ≤ i → i < n → 0 ≤ tp i ∧ tp i ≤ 255) {A : zP} {p : Int} (p0 : 0 ≤ p) (hpn : p ≤ n) (A4 : A 4 = tp) (An : A 0 4 = n) (A7 : A 0 7 = p) (A8 : A 0 8 = p) (hB : p_X2_byteAt A p = some (lB tp n p)) (o : Int) (h1 : ¬ n ≤ p) (h2 : ¬ lDg (tp p) = true) (h3 : lLt (tp p) = true) : ∃ T', tTail A p = some T' ∧ tFr A T' ∧ tR T' (lWd (lLs tp p (lRn lLt tp (n - p).toNat p)), 0, p, lRn lLt tp (n - p).toNat p, o) := by
  have hb : lB tp n p = tp p := if_neg h1
  rw [hb] at hB
  have htp := ht p (by omega) (by omega)
  obtain ⟨T2, e2, f2, g2, x2, ok2, y2, z2⟩ := m_letters (tp := tp) n300 (p := p) (n - p).toNat zFuel p (pup (pup A 0 9 2) 0 11 0) (by rw [pup_r (by omega), pup_r (by omega)]; exact A4) (by rw [pup_k (by omega), pup_k (by omega)]; exact An) (by rw [pup_k (by omega), pup_k (by omega)]; exact A7) (by omega) (by omega) (by omega) (by unfold zFuel; omega) (by rw [pup_e rfl, lLs_0]; rfl) (by rw [lLs_0]; intro x hx; exact absurd hx List.not_mem_nil)
  have w9 : T2 0 9 = 2 := z2.trans (by rw [pup_k (by omega), pup_e rfl])
  have w8 : T2 0 8 = p := y2.trans (by rw [pup_k (by omega), pup_k (by omega)]; exact A8)
  have hrn := lRn_b lLt tp (n - p).toNat p
  obtain ⟨e, ee⟩ : ∃ e, e = lRn lLt tp (n - p).toNat p := ⟨_, rfl⟩
  rw [← ee] at g2 x2 ok2 hrn ⊢
  have fT : tFr A T2 := ((tFr.up (by omega)).tr (tFr.up (by omega))).tr f2
  refine ⟨T2, ?_, fT, ?_⟩
  · refine pw_to ?_
    unfold tTail
    refine pw_beq hB (pw_ite (fun _ => pw_beq (k_fig _) ?_) (fun x => absurd htp.1 x))
    rw [if_neg h2]
    refine pw_ite (fun _ => pw_beq (k_let _) ?_) (fun x => absurd rfl x)
    rw [if_pos h3]
    exact pw_ite (fun x => absurd x (by omega)) (fun _ => pw_zlt (pw_zlt (pw_beq e2 (pw_some rfl))))
  · have hw := tw_s (lLs tp p e)
    obtain ⟨s, es⟩ : ∃ s, s = lWd (lLs tp p e) := ⟨_, rfl⟩
    refine ⟨g2, w8, ?_, ?_, fun x => ?_, fun c hc => ?_, ?_, ?_, fun q hq => ?_, ?_⟩
    · rw [w9]
      show (2 : Int) = 0 ↔ lWd (lLs tp p e) = 301
      omega
    · rw [w9]
      show (2 : Int) = 1 ↔ lWd (lLs tp p e) = 300
      omega
    · have x : lWd (lLs tp p e) = 300 := x
      omega
    · have hc2 : 3 ≤ c ∧ c ≤ 62 := by
        revert c; decide
      rw [w9]
      show (2 : Int) = c ↔ lWd (lLs tp p e) = c
      omega
    · rw [w9]
      show (2 : Int) = 4 ↔ lWd (lLs tp p e) = 303
      omega
    · rw [w9]
      show (2 : Int) = 5 ↔ lWd (lLs tp p e) = 304
      omega
    · rw [w9, x2]
      have := tw_w ok2 hq
      exact ⟨fun y => this.mp y.2, fun y => ⟨rfl, this.mpr y⟩⟩
    · rw [m_reaches ((fT.1 4 (by omega)).trans A4) ((fT.2 4 (by omega)).trans An) n300 (p := p) (e := e) (by omega) (by omega) (by omega) ht g2 w8 w9]
      show _ = some (if lWd (lLs tp p e) = 200 then 1 else 0)
      have := tw_r (lLs tp p e)
      by_cases y : lLs tp p e = [114, 101, 97, 99, 104, 101, 115]
      · rw [if_pos y, if_pos (this.mpr y)]
      · rw [if_neg y, if_neg (fun z => y (this.mp z))]
set_option maxHeartbeats 1000000 in
theorem k_tSign (n0 : 0 ≤ n) (n300 : n ≤ 300) (ht : ∀ i, 0 ≤ i → i < n → 0 ≤ tp i ∧ tp i ≤ 255) {A : zP} {p : Int} (p0 : 0 ≤ p) (hpn : p ≤ n) (A4 : A 4 = tp) (An : A 0 4 = n) (A7 : A 0 7 = p) (A8 : A 0 8 = p) (hB : p_X2_byteAt A p = some (lB tp n p)) (o : Int) (h1 : ¬ n ≤ p) (h2 : ¬ lDg (tp p) = true) (h3 : ¬ lLt (tp p) = true) : ∃ T', tTail A p = some T' ∧ tFr A T' ∧ tR T' ((lSg (tp p) (if p + 1 < n then tp (p + 1) else -1)).1, 0, p, p + (lSg (tp p) (if p + 1 < n then tp (p + 1) else -1)).2, o) := by
  have hb : lB tp n p = tp p := if_neg h1
  rw [hb] at hB
  have htp := ht p (by omega) (by omega)
  -- a sign
  obtain ⟨c, ec⟩ : ∃ c, c = tp p := ⟨_, rfl⟩
  rw [← ec] at hB h2 h3 htp ⊢
  obtain ⟨d, ed⟩ : ∃ d, d = if p + 1 < n then tp (p + 1) else -1 := ⟨_, rfl⟩
  rw [← ed]
  have sg : ∀ k1 : Int, ((if (if lSs.contains c = true ∨ c = 58 then (1 : Int) else 0) = 0 then (some (3)) else (some (c)) : Option Int)) = some k1 → ∃ B, B = pup (pup A 0 9 k1) 0 7 (p + 1) ∧ tFr A B ∧ B 0 7 = p + 1 ∧ B 0 8 = p ∧ B 0 9 = k1 ∧ p_X2_byteAt B (p + 1) = some d := fun k1 _ => by
    refine ⟨_, rfl, (tFr.up (by omega)).tr (tFr.up (by omega)), pup_e rfl, by rw [pup_k (by omega), pup_k (by omega)]; exact A8, by rw [pup_k (by omega), pup_e rfl], ?_⟩
    rw [k_byteAt (n := n) (tp := tp) (by rw [pup_r (by omega), pup_r (by omega)]; exact A4) (by rw [pup_k (by omega), pup_k (by omega)]; exact An) n300 (by omega), ed]
    unfold lB
    by_cases h : p + 1 < n
    · rw [if_pos h, if_neg (by omega)]
    · rw [if_neg h, if_pos (by omega)]
  obtain ⟨k1, ek1⟩ : ∃ k1, k1 = if lSs.contains c = true ∨ c = 58 then c else 3 := ⟨_, rfl⟩
  have hk1 : ((if (if lSs.contains c = true ∨ c = 58 then (1 : Int) else 0) = 0 then (some (3)) else (some (c)) : Option Int)) = some k1 := by
    rw [ek1]
    by_cases h : lSs.contains c = true ∨ c = 58
    · rw [if_pos h, if_pos h]; rfl
    · rw [if_neg h, if_neg h]; rfl
  obtain ⟨B, eB, fB, B7, B8, B9, Bd⟩ := sg k1 hk1
  have pre2 : ∀ X : zP, (zEx (σ := Unit) (if c = 60 then (some (.inr ())) else (if c = 62 then (some (.inr ())) else (some (.inl B)))) fun _ => zlt (B 0 7) fun v25 => (p_X2_byteAt B v25).bind fun v26 => if v26 = 61 then (((if c = 60 then (some (4)) else (some (5)) : Option Int)).bind fun v28 => zlt (pup B 0 9 v28) fun S29 => zlt (S29 0 7) fun v30 => p32 (v30 + 1) fun x2 => zlt (pup S29 0 7 x2) fun S31 => some (S31)) else (some (B))) = some X → tTail A p = some X := fun X hX => by
    refine pw_to ?_
    unfold tTail
    refine pw_beq hB (pw_ite (fun _ => pw_beq (k_fig _) ?_) (fun x => absurd htp.1 x))
    rw [if_neg h2]
    refine pw_ite (fun _ => pw_beq (k_let _) ?_) (fun x => absurd rfl x)
    rw [if_neg h3]
    refine pw_ite (fun _ => pw_beq (k_sign _) (pw_beq hk1 (pw_zlt (pw_zlt ?_)))) (fun x => absurd rfl x)
    rw [pup_k (by omega), A7]
    refine pw_p32 (by omega) (by omega) (pw_zlt ?_)
    rw [← eB]
    exact ⟨X, hX, rfl⟩
  have hcont : lSs.contains c = true → (c = 60 ∨ c = 62 ∨ c = 61 ∨ c = 35 ∨ c = 43 ∨ c = 45 ∨ c = 42 ∨ c = 47 ∨ c = 40 ∨ c = 41 ∨ c = 59) := fun h => by
    unfold lSs at h
    simp [List.contains_iff_mem] at h
    omega
  by_cases hd : (c = 60 ∨ c = 62) ∧ d = 61
  · -- two signs
    obtain ⟨k2, ek2⟩ : ∃ k2 : Int, k2 = if c = 60 then 4 else 5 := ⟨_, rfl⟩
    refine ⟨pup (pup B 0 9 k2) 0 7 (p + 1 + 1), pre2 _ ?_, fB.tr ((tFr.up (by omega)).tr (tFr.up (by omega))), ?_⟩
    · have e3 : (if c = 60 then (some (.inr ()) : Option (zP ⊕ Unit)) else (if c = 62 then (some (.inr ())) else (some (.inl B)))) = some (.inr ()) := by
        by_cases h : c = 60
        · rw [if_pos h]
        · rw [if_neg h, if_pos (hd.1.resolve_left h)]
      rw [e3]
      unfold zEx
      dsimp only [Option.bind_some, zlt]
      rw [B7, Bd]
      dsimp only [Option.bind_some]
      have e4 : ((if c = 60 then (some (4)) else (some (5)) : Option Int)) = some k2 := by
        rw [ek2]
        split <;> rfl
      rw [if_pos hd.2, e4]
      dsimp only [Option.bind_some, zlt]
      rw [pup_k (by omega), B7, p32_n (by omega) (by omega)]
    · have b9 : pup (pup B 0 9 k2) 0 7 (p + 1 + 1) 0 9 = k2 := by rw [pup_k (by omega), pup_e rfl]
      have b8 : pup (pup B 0 9 k2) 0 7 (p + 1 + 1) 0 8 = p := by rw [pup_k (by omega), pup_k (by omega)]; exact B8
      by_cases h : c = 60
      · have es : lSg c d = (303, 2) := by unfold lSg; rw [if_pos ⟨h, hd.2⟩]
        rw [es]
        rw [if_pos h] at ek2
        rw [ek2] at b9 b8 ⊢
        show tR _ (303, 0, p, p + 2, o)
        exact tR_mk (k := 4) (by rw [pup_e rfl]; omega) b8 b9 (by omega) (by omega) (by omega) (by omega) (fun x => absurd x (by omega)) (by decide) (by omega) (by omega)
      · have h' := hd.1.resolve_left h
        have es : lSg c d = (304, 2) := by unfold lSg; rw [if_neg (fun x => h x.1), if_pos ⟨h', hd.2⟩]
        rw [es]
        rw [if_neg h] at ek2
        rw [ek2] at b9 b8 ⊢
        show tR _ (304, 0, p, p + 2, o)
        exact tR_mk (k := 5) (by rw [pup_e rfl]; omega) b8 b9 (by omega) (by omega) (by omega) (by omega) (fun x => absurd x (by omega)) (by decide) (by omega) (by omega)
  · refine ⟨B, pre2 _ ?_, fB, ?_⟩
    · by_cases h : c = 60 ∨ c = 62
      · have e3 : (if c = 60 then (some (.inr ()) : Option (zP ⊕ Unit)) else (if c = 62 then (some (.inr ())) else (some (.inl B)))) = some (.inr ()) := by
          by_cases h' : c = 60
          · rw [if_pos h']
          · rw [if_neg h', if_pos (h.resolve_left h')]
        rw [e3]
        unfold zEx
        dsimp only [Option.bind_some, zlt]
        rw [B7, Bd]
        dsimp only [Option.bind_some]
        rw [if_neg (fun x => hd ⟨h, x⟩)]
      · rw [if_neg (fun x => h (Or.inl x)), if_neg (fun x => h (Or.inr x))]
        rfl
    · have es : lSg c d = if lSs.contains c = true then (c, 1) else (302, 1) := by
        unfold lSg
        rw [if_neg (fun x => hd ⟨Or.inl x.1, x.2⟩), if_neg (fun x => hd ⟨Or.inr x.1, x.2⟩)]
      rw [es]
      by_cases hc : lSs.contains c = true
      · rw [if_pos hc]
        rw [if_pos (Or.inl hc)] at ek1
        rw [ek1] at B9
        have := hcont hc
        show tR _ (c, 0, p, p + 1, o)
        exact tR_mk (k := c) B7 B8 B9 (by omega) (by omega) (by omega) (by omega) (fun x => absurd x (by omega)) (fun c' _ => Iff.rfl) (by omega) (by omega)
      · rw [if_neg hc]
        have hk3 : k1 = 3 ∨ k1 = 58 := by
          rw [ek1]
          by_cases h58 : c = 58
          · rw [if_pos (Or.inr h58)]; exact Or.inr h58
          · rw [if_neg (fun x => x.elim hc h58)]; exact Or.inl rfl
        rcases hk3 with hk3 | hk3
        · rw [hk3] at B9
          show tR _ (302, 0, p, p + 1, o)
          exact tR_mk (k := 3) B7 B8 B9 (by omega) (by omega) (by omega) (by omega) (fun x => absurd x (by omega)) (by decide) (by omega) (by omega)
        · rw [hk3] at B9
          show tR _ (302, 0, p, p + 1, o)
          exact tR_mk (k := 58) B7 B8 B9 (by omega) (by omega) (by omega) (by omega) (fun x => absurd x (by omega)) (by decide) (by omega) (by omega)
theorem k_token (n0 : 0 ≤ n) (n300 : n ≤ 300) (ht : ∀ i, 0 ≤ i → i < n → 0 ≤ tp i ∧ tp i ≤ 255) {a : Int} (o : Int) (h4 : T 4 = tp) (hn : T 0 4 = n) (ha : T 0 7 = a) (a0 : 0 ≤ a) (a1 : a ≤ n) : ∃ T', p_X2_nextToken T = some T' ∧ tFr T T' ∧ tR T' ((lx tp n a).1, (lx tp n a).2.1, (lx tp n a).2.2.1, (lx tp n a).2.2.2, o) := by
  obtain ⟨A, p, ep, hp, fA, A4, An, A7, A8, hB, pre⟩ := k_pre n0 n300 h4 hn ha a0 a1
  have fin : ∀ tok : Int × Int × Int × Int, lx tp n a = tok → (∃ T', tTail A p = some T' ∧ tFr A T' ∧ tR T' (tok.1, tok.2.1, tok.2.2.1, tok.2.2.2, o)) → ∃ T', p_X2_nextToken T = some T' ∧ tFr T T' ∧ tR T' ((lx tp n a).1, (lx tp n a).2.1, (lx tp n a).2.2.1, (lx tp n a).2.2.2, o) := fun tok e h => by
    obtain ⟨T', x, y, z⟩ := h
    rw [e]
    exact ⟨T', pre _ x, fA.tr y, z⟩
  by_cases h1 : n ≤ p
  · exact fin (301, 0, p, p) (by unfold lx; dsimp only; rw [← ep, if_pos h1]) (k_tEnd n0 n300 ht (by omega) hp.2 A4 An A7 A8 hB o h1)
  by_cases h2 : lDg (tp p) = true
  · exact fin (300, lNm tp (n - p).toNat p 0, p, lRn lDg tp (n - p).toNat p) (by unfold lx; dsimp only; rw [← ep, if_neg h1, if_pos h2]) (k_tNum n0 n300 ht (by omega) hp.2 A4 An A7 A8 hB o h1 h2)
  by_cases h3 : lLt (tp p) = true
  · exact fin (lWd (lLs tp p (lRn lLt tp (n - p).toNat p)), 0, p, lRn lLt tp (n - p).toNat p) (by unfold lx; dsimp only; rw [← ep, if_neg h1, if_neg h2, if_pos h3]) (k_tWord n0 n300 ht (by omega) hp.2 A4 An A7 A8 hB o h1 h2 h3)
  · exact fin ((lSg (tp p) (if p + 1 < n then tp (p + 1) else -1)).1, 0, p, p + (lSg (tp p) (if p + 1 < n then tp (p + 1) else -1)).2) (by unfold lx; dsimp only; rw [← ep, if_neg h1, if_neg h2, if_neg h3]) (k_tSign n0 n300 ht (by omega) hp.2 A4 An A7 A8 hB o h1 h2 h3)
/-- what comes of a tape -/
theorem aLx_i (n0 : 0 ≤ n) (n300 : n ≤ 300) (hn : E0 0 4 = n) (ht : ∀ i, 0 ≤ i → i < n → 0 ≤ E0 4 i ∧ E0 4 i ≤ 255) : aLx (lx (E0 4) n) E0 n := by
  refine ⟨fun a a0 a1 => lx_b a0 a1, fun T a o h4 h0 h7 a0 a1 => ?_⟩
  obtain ⟨T', e, f, g⟩ := k_token (tp := E0 4) (n := n) n0 n300 ht o h4 (h0.trans hn) h7 a0 a1
  exact ⟨T', e, f.1, f.2, g⟩
end
