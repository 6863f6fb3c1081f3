/-! READING: the model's tokens -/
set_option maxRecDepth 100000
def lB (tp : Int → Int) (n k : Int) : Int := if n ≤ k then -1 else tp k
section
variable {T : zP} {tp : Int → Int} {n : Int}
theorem k_byteAt (h4 : T 4 = tp) (hn : T 0 4 = n) (n300 : n ≤ 300) {k : Int} (k0 : 0 ≤ k) : p_X2_byteAt T k = some (lB tp n k) := by
  unfold p_X2_byteAt lB
  dsimp only [zlt]
  rw [hn]
  by_cases h : n ≤ k
  · rw [if_pos h, if_pos h]
  · rw [if_neg h, if_neg h]
    have : pald T 4 300 k = some (tp k) := by rw [← h4]; exact if_pos (by omega)
    rw [this]; rfl
theorem k_fig (c : Int) : p_X2_isFigure c = some (if lDg c = true then 1 else 0) := by
  unfold p_X2_isFigure lDg
  simp only [decide_eq_true_eq]
  by_cases h1 : c < 48
  · rw [if_pos h1, if_neg (by omega)]
  · rw [if_neg h1]
    by_cases h2 : 57 < c
    · rw [if_pos h2, if_neg (by omega)]
    · rw [if_neg h2, if_pos (by omega)]
theorem k_let (c : Int) : p_X2_isLetterByte c = some (if lLt c = true then 1 else 0) := by
  unfold p_X2_isLetterByte lLt zEx
  simp only [decide_eq_true_eq]
  by_cases h1 : c < 97
  · rw [if_pos h1]
    dsimp only [Option.bind_some]
    by_cases h2 : c < 65
    · rw [if_pos h2, if_neg (by omega)]
    · rw [if_neg h2]
      by_cases h3 : 90 < c
      · rw [if_pos h3, if_neg (by omega)]
      · rw [if_neg h3, if_pos (by omega)]
  · rw [if_neg h1]
    by_cases h2 : c ≤ 122
    · rw [if_pos h2]
      show some 1 = _
      rw [if_pos (by omega)]
    · rw [if_neg h2]
      dsimp only [Option.bind_some]
      rw [if_neg (by omega), if_pos (by omega), if_neg (by omega)]
theorem k_sign (c : Int) : p_X2_isSign c = some (if lSs.contains c = true ∨ c = 58 then 1 else 0) := by
  have e : lSs.contains c = true ↔ (c = 60 ∨ c = 62 ∨ c = 61 ∨ c = 35 ∨ c = 43 ∨ c = 45 ∨ c = 42 ∨ c = 47 ∨ c = 40 ∨ c = 41 ∨ c = 59) := by
    unfold lSs
    simp [List.contains_iff_mem]
  simp only [e]
  unfold p_X2_isSign
  repeat' split
  all_goals first | rfl | (exfalso; omega)
/-- the same but for some fields -/
def tFr (T T' : zP) : Prop := (∀ c, c ≠ 0 → T' c = T c) ∧ ∀ i, i < 7 ∨ 11 < i → T' 0 i = T 0 i
theorem tFr.tr {T1 T2 T3 : zP} (h : tFr T1 T2) (k : tFr T2 T3) : tFr T1 T3 := ⟨fun c hc => (k.1 c hc).trans (h.1 c hc), fun i hi => (k.2 i hi).trans (h.2 i hi)⟩
theorem tFr.up {i v : Int} (hi : 7 ≤ i ∧ i ≤ 11) : tFr T (pup T 0 i v) := ⟨fun c hc => pup_r hc, fun j hj => pup_k (by omega)⟩
theorem tFr.rf : tFr T T := ⟨fun _ _ => rfl, fun _ _ => rfl⟩
theorem m_blank (n300 : n ≤ 300) : ∀ (k F : Nat) (a : Int) (T : zP), T 4 = tp → T 0 4 = n → T 0 7 = a → 0 ≤ a → a + (k : Int) = n → k < F → ∃ T', zLoop pb_X2_nextToken_0 F T = some T' ∧ tFr T T' ∧ T' 0 7 = lRn lBl tp k a ∧ ∀ i, i ≠ 7 → T' 0 i = T 0 i
  | _, 0, _, _, _, _, _, _, _, h => absurd h (Nat.not_lt_zero _)
  | 0, F + 1, a, T, h4, hn, ha, a0, hk, _ => by
    refine ⟨T, zLoop_l ?_, tFr.rf, ha, fun _ _ => rfl⟩
    unfold pb_X2_nextToken_0
    dsimp only [zlt]
    rw [ha, k_byteAt h4 hn n300 a0]
    have : lB tp n a = -1 := if_pos (by omega)
    rw [this]; rfl
  | k + 1, F + 1, a, T, h4, hn, ha, a0, hk, hF => by
    have eb : lB tp n a = tp a := if_neg (by omega)
    have e1 : lRn lBl tp (k + 1) a = if lBl (tp a) = true then lRn lBl tp k (a + 1) else a := rfl
    rw [e1]
    by_cases hb : lBl (tp a) = true
    · rw [if_pos hb]
      have hb' : tp a = 32 ∨ tp a = 10 := of_decide_eq_true hb
      obtain ⟨T', x1, x2, x3, x4⟩ := m_blank n300 k F (a + 1) (pup T 0 7 (a + 1)) ((pup_r (by omega)).trans h4) ((pup_k (by omega)).trans hn) (pup_e rfl) (by omega) (by omega) (by omega)
      refine ⟨T', (zLoop_r ?_).trans x1, (tFr.up (by omega)).tr x2, x3, fun i hi => (x4 i hi).trans (pup_k hi)⟩
      unfold pb_X2_nextToken_0
      dsimp only [zlt]
      rw [ha, k_byteAt h4 hn n300 a0, eb]
      dsimp only [Option.bind_some]
      unfold zEx
      by_cases h32 : tp a = 32
      · rw [if_pos h32]
        dsimp only [Option.bind_some]
        rw [p32_n (by omega) (by omega)]
      · rw [if_neg h32, if_pos (hb'.resolve_left h32)]
        dsimp only [Option.bind_some]
        rw [p32_n (by omega) (by omega)]
    · rw [if_neg hb]
      have hb' : ¬ (tp a = 32 ∨ tp a = 10) := fun x => hb (decide_eq_true x)
      refine ⟨T, zLoop_l ?_, tFr.rf, ha, fun _ _ => rfl⟩
      unfold pb_X2_nextToken_0
      dsimp only [zlt]
      rw [ha, k_byteAt h4 hn n300 a0, eb]
      dsimp only [Option.bind_some]
      rw [if_neg (fun x => hb' (Or.inl x)), if_neg (fun x => hb' (Or.inr x))]
      rfl
theorem m_digits (n300 : n ≤ 300) : ∀ (k F : Nat) (a u v : Int) (T : zP), T 4 = tp → T 0 4 = n → T 0 7 = a → 0 ≤ a → a + (k : Int) = n → k < F → T 0 10 = u → ((u = v ∧ 0 ≤ v ∧ v ≤ 99999) ∨ (99999 < u ∧ u ≤ 1000000 ∧ v = 99999)) → ∃ T', zLoop pb_X2_nextToken_85 F T = some T' ∧ tFr T T' ∧ T' 0 7 = lRn lDg tp k a ∧ ((T' 0 10 = lNm tp k a v ∧ 0 ≤ lNm tp k a v ∧ lNm tp k a v ≤ 99999) ∨ (99999 < T' 0 10 ∧ lNm tp k a v = 99999)) ∧ T' 0 8 = T 0 8 ∧ T' 0 9 = T 0 9
  | _, 0, _, _, _, _, _, _, _, _, _, h, _, _ => absurd h (Nat.not_lt_zero _)
  | 0, F + 1, a, u, v, T, h4, hn, ha, a0, hk, _, hu, huv => by
    refine ⟨T, zLoop_l ?_, tFr.rf, ha, ?_, rfl, rfl⟩
    · unfold pb_X2_nextToken_85
      dsimp only [zlt]
      rw [ha, k_byteAt h4 hn n300 a0]
      dsimp only [Option.bind_some]
      have : lB tp n a = -1 := if_pos (by omega)
      rw [this, k_fig]; rfl
    · show (T 0 10 = v ∧ 0 ≤ v ∧ v ≤ 99999) ∨ (99999 < T 0 10 ∧ v = 99999)
      omega
  | k + 1, F + 1, a, u, v, T, h4, hn, ha, a0, hk, hF, hu, huv => by
    have eb : lB tp n a = tp a := if_neg (by omega)
    have e1 : lRn lDg tp (k + 1) a = if lDg (tp a) = true then lRn lDg tp k (a + 1) else a := rfl
    have e2 : lNm tp (k + 1) a v = if lDg (tp a) = true then lNm tp k (a + 1) (if 99999 < 10 * v + tp a - 48 then 99999 else 10 * v + tp a - 48) else v := rfl
    rw [e1, e2]
    by_cases hb : lDg (tp a) = true
    · rw [if_pos hb, if_pos hb]
      have hb' : 48 ≤ tp a ∧ tp a ≤ 57 := of_decide_eq_true hb
      obtain ⟨u', eu'⟩ : ∃ u', u' = if u ≤ 99999 then 10 * u + tp a - 48 else u := ⟨_, rfl⟩
      obtain ⟨v', ev'⟩ : ∃ v', v' = if 99999 < 10 * v + tp a - 48 then 99999 else 10 * v + tp a - 48 := ⟨_, rfl⟩
      have huv' : (u' = v' ∧ 0 ≤ v' ∧ v' ≤ 99999) ∨ (99999 < u' ∧ u' ≤ 1000000 ∧ v' = 99999) := by
        rw [eu', ev']
        split <;> split <;> omega
      rw [← ev']
      obtain ⟨T', x1, x2, x3, x4, x5, x6⟩ := m_digits n300 k F (a + 1) u' v' (pup (pup T 0 10 u') 0 7 (a + 1)) (by rw [pup_r (by omega), pup_r (by omega)]; exact h4) (by rw [pup_k (by omega), pup_k (by omega)]; exact hn) (pup_e rfl) (by omega) (by omega) (by omega) (by rw [pup_k (by omega), pup_e rfl]) huv'
      refine ⟨T', (zLoop_r ?_).trans x1, ((tFr.up (by omega)).tr (tFr.up (by omega))).tr x2, x3, x4, x5.trans (by rw [pup_k (by omega), pup_k (by omega)]), x6.trans (by rw [pup_k (by omega), pup_k (by omega)])⟩
      refine pw_to ?_
      unfold pb_X2_nextToken_85
      refine pw_zlt ?_
      rw [ha]
      refine pw_beq (k_byteAt h4 hn n300 a0) ?_
      rw [eb]
      refine pw_beq (k_fig _) ?_
      rw [if_pos hb]
      refine pw_ite (fun x => absurd x (by omega)) (fun _ => pw_zlt ?_)
      rw [hu]
      have eK : ((if u ≤ 99999 then (zlt u fun v62 => zlt a fun v63 => (p_X2_byteAt T v63).bind fun v64 => p32 (((10 * v62) + v64) - 48) fun x1 => some (x1)) else (zlt u fun v65 => some (v65)) : Option Int)) = some u' := by
        rw [eu']
        by_cases hq : u ≤ 99999
        · rw [if_pos hq, if_pos hq]
          dsimp only [zlt]
          rw [k_byteAt h4 hn n300 a0, eb]
          dsimp only [Option.bind_some]
          rw [p32_n (by omega) (by omega)]
        · rw [if_neg hq, if_neg hq]; rfl
      refine pw_beq eK (pw_zlt (pw_zlt ?_))
      rw [pup_k (by omega), ha]
      exact pw_p32 (by omega) (by omega) (pw_zlt (pw_some rfl))
    · rw [if_neg hb, if_neg hb]
      refine ⟨T, zLoop_l ?_, tFr.rf, ha, ?_, rfl, rfl⟩
      · unfold pb_X2_nextToken_85
        dsimp only [zlt]
        rw [ha, k_byteAt h4 hn n300 a0, eb]
        dsimp only [Option.bind_some]
        rw [k_fig, if_neg hb]; rfl
      · omega
theorem lLs_s {p a : Int} (h : p ≤ a) : lLs tp p (a + 1) = lLs tp p a ++ [tp a] := by
  unfold lLs
  rw [show (a + 1 - p).toNat = (a - p).toNat + 1 by omega, List.range_succ, List.map_append]
  congr 1
  show [tp (p + (((a - p).toNat : Nat) : Int))] = [tp a]
  rw [show p + (((a - p).toNat : Nat) : Int) = a by omega]
theorem lLs_0 {p : Int} : lLs tp p p = [] := by
  unfold lLs
  rw [show (p - p).toNat = 0 by omega]; rfl
theorem m_letters (n300 : n ≤ 300) {p : Int} : ∀ (k F : Nat) (a : Int) (T : zP), T 4 = tp → T 0 4 = n → T 0 7 = a → 0 ≤ p → p ≤ a → a + (k : Int) = n → k < F → T 0 11 = pkR (lLs tp p a).reverse → lOk (lLs tp p a) → ∃ T', zLoop pb_X2_nextToken_168 F T = some T' ∧ tFr T T' ∧ T' 0 7 = lRn lLt tp k a ∧ T' 0 11 = pkR (lLs tp p (lRn lLt tp k a)).reverse ∧ lOk (lLs tp p (lRn lLt tp k a)) ∧ T' 0 8 = T 0 8 ∧ T' 0 9 = T 0 9
  | _, 0, _, _, _, _, _, _, _, _, h, _, _ => absurd h (Nat.not_lt_zero _)
  | 0, F + 1, a, T, h4, hn, ha, p0, pa, hk, _, hu, hok => by
    refine ⟨T, zLoop_l ?_, tFr.rf, ha, hu, hok, rfl, rfl⟩
    unfold pb_X2_nextToken_168
    dsimp only [zlt]
    rw [ha, k_byteAt h4 hn n300 (by omega)]
    dsimp only [Option.bind_some]
    have : lB tp n a = -1 := if_pos (by omega)
    rw [this, k_let]; rfl
  | k + 1, F + 1, a, T, h4, hn, ha, p0, pa, hk, hF, hu, hok => by
    have eb : lB tp n a = tp a := if_neg (by omega)
    have e1 : lRn lLt tp (k + 1) a = if lLt (tp a) = true then lRn lLt tp k (a + 1) else a := rfl
    rw [e1]
    by_cases hb : lLt (tp a) = true
    · rw [if_pos hb]
      have hb' : (97 ≤ tp a ∧ tp a ≤ 122) ∨ (65 ≤ tp a ∧ tp a ≤ 90) := of_decide_eq_true hb
      have hok2 : lOk (lLs tp p (a + 1)) := by
        rw [lLs_s pa]
        intro x hx
        rcases List.mem_append.mp hx with y | y
        · exact hok x y
        · rw [List.mem_singleton.mp y]; omega
      have hpk : pkR (lLs tp p (a + 1)).reverse = pkA (pkR (lLs tp p a).reverse) (tp a) := by
        rw [lLs_s pa, List.reverse_append]; rfl
      have hbd := pkR_b (lLs tp p a).reverse (fun x hx => hok x (List.mem_reverse.mp hx))
      obtain ⟨T', x1, x2, x3, x4, x5, x6, x7⟩ := m_letters n300 k F (a + 1) (pup (pup T 0 11 (pkR (lLs tp p (a + 1)).reverse)) 0 7 (a + 1)) (by rw [pup_r (by omega), pup_r (by omega)]; exact h4) (by rw [pup_k (by omega), pup_k (by omega)]; exact hn) (pup_e rfl) p0 (by omega) (by omega) (by omega) (by rw [pup_k (by omega), pup_e rfl]) hok2
      refine ⟨T', (zLoop_r ?_).trans x1, ((tFr.up (by omega)).tr (tFr.up (by omega))).tr x2, x3, x4, x5, x6.trans (by rw [pup_k (by omega), pup_k (by omega)]), x7.trans (by rw [pup_k (by omega), pup_k (by omega)])⟩
      refine pw_to ?_
      unfold pb_X2_nextToken_168
      refine pw_zlt ?_
      rw [ha]
      refine pw_beq (k_byteAt h4 hn n300 (by omega)) ?_
      rw [eb]
      refine pw_beq (k_let _) ?_
      rw [if_pos hb]
      refine pw_ite (fun x => absurd x (by omega)) (fun _ => pw_zlt ?_)
      rw [hu]
      have eK : ((zlt (pjshr (pkR (lLs tp p a).reverse) 48) fun x1 => if x1 = 0 then (zlt (pkR (lLs tp p a).reverse) fun w44 => zlt a fun v45 => (p_X2_byteAt T v45).bind fun v46 => zlt (pjshl w44 8) fun x2 => zlt (pjor x2 v46) fun x3 => some (x3)) else (some (1152921504606846976)) : Option Int)) = some (pkR (lLs tp p (a + 1)).reverse) := by
        rw [hpk, ← pk_step hbd.1 hbd.2.1 (by omega) (by omega)]
        dsimp only [zlt]
        by_cases hq : pjshr (pkR (lLs tp p a).reverse) 48 = 0
        · rw [if_pos hq, if_pos hq, k_byteAt h4 hn n300 (by omega), eb]; rfl
        · rw [if_neg hq, if_neg hq]
      refine pw_beq eK (pw_zlt (pw_zlt ?_))
      rw [pup_k (by omega), ha]
      exact pw_p32 (by omega) (by omega) (pw_zlt (pw_some rfl))
    · rw [if_neg hb]
      refine ⟨T, zLoop_l ?_, tFr.rf, ha, hu, hok, rfl, rfl⟩
      unfold pb_X2_nextToken_168
      dsimp only [zlt]
      rw [ha, k_byteAt h4 hn n300 (by omega), eb]
      dsimp only [Option.bind_some]
      rw [k_let, if_neg hb]; rfl
theorem lLs_g {p e : Int} {i : Nat} (h : (i : Int) < e - p) : (lLs tp p e)[i]? = some (tp (p + (i : Int))) := by
  unfold lLs
  rw [List.getElem?_map, List.getElem?_range (by omega)]; rfl
theorem lLs_l {p e : Int} : (lLs tp p e).length = (e - p).toNat := by
  unfold lLs
  rw [List.length_map, List.length_range]
theorem k_w4 {a b c d : Int} (ha : 0 ≤ a ∧ a < 256) (hb : 0 ≤ b ∧ b < 256) (hc : 0 ≤ c ∧ c < 256) (hd : 0 ≤ d ∧ d < 256) : p_X2_w4 a b c d = some (256 * (256 * (256 * a + b) + c) + d) := by
  unfold p_X2_w4 p_X2_w3 p_X2_w2
  dsimp only [zlt, Option.bind_some]
  rw [pj_pack (by omega) (by omega) hb.1 hb.2, pj_pack (by omega) (by omega) hc.1 hc.2, pj_pack (by omega) (by omega) hd.1 hd.2]
theorem k_w3 {a b c : Int} (ha : 0 ≤ a ∧ a < 256) (hb : 0 ≤ b ∧ b < 256) (hc : 0 ≤ c ∧ c < 256) : p_X2_w3 a b c = some (256 * (256 * a + b) + c) := by
  unfold p_X2_w3 p_X2_w2
  dsimp only [zlt, Option.bind_some]
  rw [pj_pack (by omega) (by omega) hb.1 hb.2, pj_pack (by omega) (by omega) hc.1 hc.2]
theorem m_reaches (h4 : T 4 = tp) (hn : T 0 4 = n) (n300 : n ≤ 300) {p e : Int} (p0 : 0 ≤ p) (pe : p ≤ e) (en : e ≤ n) (ht : ∀ i, 0 ≤ i → i < n → 0 ≤ tp i ∧ tp i ≤ 255) (h7 : T 0 7 = e) (h8 : T 0 8 = p) (h9 : T 0 9 = 2) : p_X2_isReaches T = some (if lLs tp p e = [114, 101, 97, 99, 104, 101, 115] then 1 else 0) := by
  unfold p_X2_isReaches
  dsimp only [zlt]
  rw [if_pos h9, h7, h8, p32_n (by omega) (by omega)]
  by_cases hl : e - p = 7
  · rw [if_pos hl]
    have bt : ∀ j : Int, 0 ≤ j → j < 7 → p_X2_byteAt T (p + j) = some (tp (p + j)) := fun j j0 j1 => by
      rw [k_byteAt h4 hn n300 (by omega)]
      have : lB tp n (p + j) = tp (p + j) := if_neg (by omega)
      rw [this]
    have b0 := bt 0 (by omega) (by omega)
    rw [Int.add_zero] at b0
    rw [b0]
    dsimp only [Option.bind_some]
    rw [p32_n (by omega) (by omega), bt 1 (by omega) (by omega)]
    dsimp only [Option.bind_some]
    rw [p32_n (by omega) (by omega), bt 2 (by omega) (by omega)]
    dsimp only [Option.bind_some]
    rw [p32_n (by omega) (by omega), bt 3 (by omega) (by omega)]
    dsimp only [Option.bind_some]
    have t0 := ht p p0 (by omega)
    have t1 := ht (p + 1) (by omega) (by omega)
    have t2 := ht (p + 2) (by omega) (by omega)
    have t3 := ht (p + 3) (by omega) (by omega)
    have t4 := ht (p + 4) (by omega) (by omega)
    have t5 := ht (p + 5) (by omega) (by omega)
    have t6 := ht (p + 6) (by omega) (by omega)
    rw [k_w4 (by omega) (by omega) (by omega) (by omega), k_w4 (by omega) (by omega) (by omega) (by omega)]
    dsimp only [Option.bind_some]
    have eL : lLs tp p e = [tp p, tp (p + 1), tp (p + 2), tp (p + 3), tp (p + 4), tp (p + 5), tp (p + 6)] := by
      unfold lLs
      rw [hl]
      show [tp (p + 0), tp (p + 1), tp (p + 2), tp (p + 3), tp (p + 4), tp (p + 5), tp (p + 6)] = _
      rw [Int.add_zero]
    rw [eL]
    by_cases hw : 256 * (256 * (256 * tp p + tp (p + 1)) + tp (p + 2)) + tp (p + 3) = 256 * (256 * (256 * 114 + 101) + 97) + 99
    · rw [if_pos hw]
      rw [p32_n (by omega) (by omega), bt 4 (by omega) (by omega)]
      dsimp only [Option.bind_some]
      rw [p32_n (by omega) (by omega), bt 5 (by omega) (by omega)]
      dsimp only [Option.bind_some]
      rw [p32_n (by omega) (by omega), bt 6 (by omega) (by omega)]
      dsimp only [Option.bind_some]
      rw [k_w3 (by omega) (by omega) (by omega), k_w3 (by omega) (by omega) (by omega)]
      dsimp only [Option.bind_some]
      by_cases hv : 256 * (256 * tp (p + 4) + tp (p + 5)) + tp (p + 6) = 256 * (256 * 104 + 101) + 115
      · rw [if_pos hv, if_pos]
        have q0 : tp p = 114 := by omega
        have q1 : tp (p + 1) = 101 := by omega
        have q2 : tp (p + 2) = 97 := by omega
        have q3 : tp (p + 3) = 99 := by omega
        have q4 : tp (p + 4) = 104 := by omega
        have q5 : tp (p + 5) = 101 := by omega
        have q6 : tp (p + 6) = 115 := by omega
        rw [q0, q1, q2, q3, q4, q5, q6]
      · rw [if_neg hv, if_neg]
        intro x
        simp only [List.cons.injEq, and_true] at x
        omega
    · rw [if_neg hw, if_neg]
      intro x
      simp only [List.cons.injEq, and_true] at x
      omega
  · rw [if_neg hl, if_neg]
    intro x
    have := congrArg List.length x
    rw [lLs_l] at this
    have e7 : ([114, 101, 97, 99, 104, 101, 115] : List Int).length = 7 := rfl
    rw [e7] at this
    omega
end
