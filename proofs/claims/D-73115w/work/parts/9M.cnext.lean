/-! COMPONENT READING: the next token -/
set_option maxRecDepth 100000
theorem lw_c : ∀ l ∈ lWs, l.length ≤ 7 ∧ ∀ x ∈ l, 0 ≤ x ∧ x < 128 := by decide
theorem lw_n : ∀ i : Fin 25, lWd (lWs.getD i.val []) = 200 + ((i.val : Nat) : Int) ∧ lWs.getD i.val [] ∈ lWs := by decide +kernel
theorem lw_m {l : List Int} (h : l ∈ lWs) : ∃ i : Nat, i < 25 ∧ lWs.getD i [] = l := by
  obtain ⟨i, hi, e⟩ := List.mem_iff_getElem.mp h
  refine ⟨i, hi, ?_⟩
  rw [List.getD_eq_getElem?_getD, List.getElem?_eq_getElem hi, e]; rfl
theorem ls_c : ∀ x ∈ lSs, 0 ≤ x ∧ x < 128 := by decide
section
variable {τ ta : Nat} {n kd : Int} {tp : Int → Int} {g : zGd} {m : zMm} {st : aSt}
/-- whether a word lies there -/
theorem c_isWord (hb : ∀ i, 0 ≤ i → i < n → 0 ≤ tp i ∧ tp i ≤ 255) (n300 : n ≤ 300) (h : cTa τ ta n tp g m) {s : Nat} {w : List Int} (hs : cStr g m s w) (hw : ∀ x ∈ w, 0 ≤ x ∧ x < 128) (hwl : w.length ≤ 7) {p e : Int} (h2 : (zI m τ 2).toInt = e) (h3 : (zI m τ 3).toInt = p) (p0 : 0 ≤ p) (pe : p ≤ e) (en : e ≤ n) (hlo : lOk (lLs tp p e)) : f_X3_isWord g m (some τ) (some s) = some (if lLs tp p e = w then 1 else 0, g, m) := by
  have n0 : (0 : Int32).toInt = 0 := by decide
  have one : (1 : Int32).toInt = 1 := by decide
  have hd := i_sub h2 h3 (by omega) (by omega)
  have hwn : (Int32.ofNat w.length).toInt = (w.length : Int) := i32_n (by omega)
  have hl : (lLs tp p e).length = (e - p).toNat := lLs_l
  unfold f_X3_isWord
  rw [e_gi (ci := 3) h.1, e_gi (ci := 3) h.1]
  dsimp only [Option.bind_some]
  rw [e_rc (ci := 18) hs.2.1, c_length hs]
  dsimp only [Option.bind_some]
  by_cases hq : e - p = (w.length : Int)
  · rw [if_pos ((i_eq hd hwn).mpr hq)]
    -- letter by letter
    have loop : ∀ (k F : Nat) (j : Nat) (v : Int32), v.toInt = (j : Int) → j + k = w.length → k < F → (∀ i : Nat, i < j → tp (p + (i : Int)) = w.getD i 0) → zLoop (b_X3_isWord_20 (some τ) (some s)) F (v, g, m) = some (if lLs tp p e = w then .inr (g, m) else .inl (0, g, m)) := by
      intro k
      induction k with
      | zero =>
        intro F j v hv hj hF hall
        obtain ⟨F, rfl⟩ : ∃ F', F = F' + 1 := ⟨F - 1, by omega⟩
        have heq : lLs tp p e = w := by
          apply List.ext_getElem?
          intro i
          by_cases hi : i < w.length
          · rw [lLs_g (by omega), hall i (by omega), List.getElem?_eq_getElem hi, List.getD_eq_getElem?_getD, List.getElem?_eq_getElem hi]; rfl
          · rw [List.getElem?_eq_none (by omega), List.getElem?_eq_none (by omega)]
        rw [if_pos heq]
        refine zLoop_l ?_
        unfold b_X3_isWord_20
        dsimp only
        rw [e_rc (ci := 18) hs.2.1, c_length hs]
        dsimp only [Option.bind_some]
        rw [if_pos ((i_le hwn hv).mpr (by omega))]
      | succ k ih =>
        intro F j v hv hj hF hall
        obtain ⟨F, rfl⟩ : ∃ F', F = F' + 1 := ⟨F - 1, by omega⟩
        have hpj := i_add h3 hv (by omega) (by omega)
        obtain ⟨c, ec, hc⟩ := c_byte h n300 hpj (by omega) (by omega)
        obtain ⟨d, ed, hd2⟩ := c_charAt hs hw (by omega) hv (by omega) (by omega)
        rw [Int.toNat_natCast] at hd2
        have hmem : tp (p + (j : Int)) ∈ lLs tp p e := by
          refine List.mem_iff_getElem?.mpr ⟨j, lLs_g (by omega)⟩
        have hcl := hlo _ hmem
        have hsg : sgB (tp (p + (j : Int))) = tp (p + (j : Int)) := if_pos (by omega)
        rw [hsg] at hc
        have pre : b_X3_isWord_20 (some τ) (some s) (v, g, m) = if c = d then some (.inr (v + 1, g, m)) else some (.inl (.inl (0, g, m))) := by
          unfold b_X3_isWord_20
          dsimp only
          rw [e_rc (ci := 18) hs.2.1, c_length hs]
          dsimp only [Option.bind_some]
          rw [if_neg (fun y => by have := (i_le hwn hv).mp y; omega), e_gr (ci := 3) h.1, h.2.2.2.1]
          dsimp only [Option.bind_some]
          rw [e_gi (ci := 3) h.1]
          dsimp only [Option.bind_some]
          rw [ec]
          dsimp only [Option.bind_some]
          rw [e_rc (ci := 18) hs.2.1, ed]
          rfl
        by_cases hcd : c = d
        · rw [if_pos hcd] at pre
          rw [zLoop_r pre]
          refine ih F (j + 1) (v + 1) ?_ (by omega) (by omega) (fun i hi => ?_)
          · rw [i_add hv one (by omega) (by omega)]; omega
          · by_cases hij : i = j
            · subst hij
              have := (i_eq hc hd2).mp hcd
              exact this
            · exact hall i (by omega)
        · rw [if_neg hcd] at pre
          rw [zLoop_l pre]
          have hne : lLs tp p e ≠ w := fun y => by
            have h1 := lLs_g (tp := tp) (p := p) (e := e) (i := j) (by omega)
            rw [y, List.getElem?_eq_getElem (by omega)] at h1
            have h1 := Option.some.inj h1
            refine hcd ((i_eq hc hd2).mpr ?_)
            rw [← h1, List.getD_eq_getElem?_getD, List.getElem?_eq_getElem (by omega)]; rfl
          rw [if_neg hne]
    rw [loop w.length zFuel 0 0 n0 (by omega) (by unfold zFuel; omega) (fun i hi => absurd hi (Nat.not_lt_zero _))]
    by_cases heq : lLs tp p e = w
    · rw [if_pos heq, if_pos heq]; rfl
    · rw [if_neg heq, if_neg heq]; rfl
  · rw [if_neg (fun y => hq ((i_eq hd hwn).mp y)), if_neg]
    intro y
    rw [y] at hl
    omega
/-- all words -/
theorem c_words (hb : ∀ i, 0 ≤ i → i < n → 0 ≤ tp i ∧ tp i ≤ 255) (n300 : n ≤ 300) {p e : Int} (p0 : 0 ≤ p) (pe : p ≤ e) (en : e ≤ n) (hlo : lOk (lLs tp p e)) : ∀ (k F : Nat) (j : Nat) (v : Int32) (m : zMm), cTa τ ta n tp g m → cW g m → (zI m τ 2).toInt = e → (zI m τ 3).toInt = p → v.toInt = (j : Int) → j + k = 25 → k < F → (((zI m τ 4).toInt = 302 ∧ ∀ i : Nat, i < j → lWs.getD i [] ≠ lLs tp p e) ∨ ((zI m τ 4).toInt = lWd (lLs tp p e) ∧ ∃ i : Nat, i < 25 ∧ lWs.getD i [] = lLs tp p e)) → ∃ m', zLoop (b_X3_next_144 (some τ)) F (v, g, m) = some (g, m') ∧ tkF τ m m' ∧ (zI m' τ 4).toInt = lWd (lLs tp p e) ∧ ∀ i, i ≠ 4 → zI m' τ i = zI m τ i := by
  intro k
  induction k with
  | zero =>
    intro F j v m h hW h2 h3 hv hj hF hs
    obtain ⟨F, rfl⟩ : ∃ F', F = F' + 1 := ⟨F - 1, by omega⟩
    obtain ⟨⟨a, a1, a2, a3, a4⟩, -⟩ := hW
    refine ⟨m, zLoop_l ?_, tkF.rf, ?_, fun _ _ => rfl⟩
    · unfold b_X3_next_144
      dsimp only
      rw [a1, e_alen a3 (by omega)]
      dsimp only [Option.bind_some]
      have h25 : (Int32.ofNat 25).toInt = 25 := by decide
      rw [if_pos ((i_le h25 hv).mpr (by omega))]
    · rcases hs with ⟨q1, q2⟩ | ⟨q1, -⟩
      · rw [q1]
        exact (lFi_n lWs _ 200 (fun y => by
          obtain ⟨i, hi, e⟩ := lw_m y
          exact q2 i (by omega) e)).symm
      · exact q1
  | succ k ih =>
    intro F j v m h hW h2 h3 hv hj hF hs
    obtain ⟨F, rfl⟩ : ∃ F', F = F' + 1 := ⟨F - 1, by omega⟩
    have hW' := hW
    obtain ⟨⟨a, a1, a2, a3, a4⟩, -⟩ := hW
    obtain ⟨s, s1, s2⟩ := a4 j (by omega)
    have one : (1 : Int32).toInt = 1 := by decide
    have h25 : (Int32.ofNat 25).toInt = 25 := by decide
    have h200 : (200 : Int32).toInt = 200 := by decide
    have hln := lw_n ⟨j, by omega⟩
    have hlc := lw_c _ hln.2
    have hwd := c_isWord hb n300 h s2 hlc.2 hlc.1 h2 h3 p0 pe en hlo
    have hv1 : (v + 1).toInt = ((j + 1 : Nat) : Int) := by rw [i_add hv one (by omega) (by omega)]; omega
    have pre : b_X3_next_144 (some τ) (v, g, m) = if (if lLs tp p e = lWs.getD j [] then (1 : Int32) else 0) = 0 then some (.inr (v + 1, g, m)) else some (.inr (v + 1, g, zsI m τ 4 (200 + v))) := by
      unfold b_X3_next_144
      dsimp only
      rw [a1, e_alen a3 (by omega)]
      dsimp only [Option.bind_some]
      rw [if_neg (fun y => by have := (i_le h25 hv).mp y; omega), e_aldr a3 hv (by omega) (by omega), Int.toNat_natCast, s1]
      dsimp only [Option.bind_some]
      rw [e_rc (ci := 3) h.1, hwd]
      dsimp only [Option.bind_some]
      rw [e_pi (ci := 3) h.1 h.2.1]
      rfl
    by_cases heq : lLs tp p e = lWs.getD j []
    · rw [if_pos heq, if_neg (by decide)] at pre
      have f1 : tkF τ m (zsI m τ 4 (200 + v)) := tkF.up
      have hbs : cBs g m g (zsI m τ 4 (200 + v)) := ⟨rfl, rfl, fun q hq => ⟨rfl, f1.1 q (by have := h.2.1; omega), by rw [f1.2.2]⟩⟩
      obtain ⟨m', x1, x2, x3, x4⟩ := ih F (j + 1) (v + 1) (zsI m τ 4 (200 + v)) (cTa_c h f1 (f_k (by omega))) (cW_c hbs hW') (by rw [f_k (by omega)]; exact h2) (by rw [f_k (by omega)]; exact h3) hv1 (by omega) (by omega) (Or.inr ⟨by rw [f_s, i_add h200 hv (by omega) (by omega), heq]; exact hln.1.symm, j, by omega, heq.symm⟩)
      exact ⟨m', (zLoop_r pre).trans x1, f1.tr x2, x3, fun i hi => (x4 i hi).trans (f_k hi)⟩
    · rw [if_neg heq, if_pos rfl] at pre
      obtain ⟨m', x1, x2, x3, x4⟩ := ih F (j + 1) (v + 1) m h hW' h2 h3 hv1 (by omega) (by omega) (by
        rcases hs with ⟨q1, q2⟩ | q
        · refine Or.inl ⟨q1, fun i hi y => ?_⟩
          by_cases hij : i = j
          · subst hij; exact heq y.symm
          · exact q2 i (by omega) y
        · exact Or.inr q)
      exact ⟨m', (zLoop_r pre).trans x1, x2, x3, x4⟩
/-- all signs -/
theorem c_signs {c : Int32} {x : Int} (hc : c.toInt = sgB x) (hx : 0 ≤ x ∧ x ≤ 255) : ∀ (k F : Nat) (j : Nat) (v : Int32) (m : zMm), cTa τ ta n tp g m → cW g m → v.toInt = (j : Int) → j + k = 11 → k < F → (zI m τ 4).toInt = (if (lSs.take j).contains x = true then x else 302) → ∃ m', zLoop (b_X3_next_306 (some τ) c) F (v, g, m) = some (g, m') ∧ tkF τ m m' ∧ (zI m' τ 4).toInt = (if lSs.contains x = true then x else 302) ∧ ∀ i, i ≠ 4 → zI m' τ i = zI m τ i := by
  intro k
  induction k with
  | zero =>
    intro F j v m h hW hv hj hF hs
    obtain ⟨F, rfl⟩ : ∃ F', F = F' + 1 := ⟨F - 1, by omega⟩
    obtain ⟨-, ⟨s, s1, s2⟩, -⟩ := hW
    have hj : j = 11 := by omega
    subst hj
    refine ⟨m, zLoop_l ?_, tkF.rf, hs, fun _ _ => rfl⟩
    unfold b_X3_next_306
    dsimp only
    rw [s1, e_rc (ci := 18) s2.2.1, c_length s2]
    dsimp only [Option.bind_some]
    have h11 : (Int32.ofNat lSs.length).toInt = 11 := by decide
    rw [if_pos ((i_le h11 hv).mpr (by omega))]
  | succ k ih =>
    intro F j v m h hW hv hj hF hs
    obtain ⟨F, rfl⟩ : ∃ F', F = F' + 1 := ⟨F - 1, by omega⟩
    have hW' := hW
    obtain ⟨-, ⟨s, s1, s2⟩, -⟩ := hW
    have one : (1 : Int32).toInt = 1 := by decide
    have h11 : (Int32.ofNat lSs.length).toInt = 11 := by decide
    have l11 : lSs.length = 11 := by decide
    obtain ⟨d, ed, hd⟩ := c_charAt s2 ls_c (by decide) hv (by omega) (by rw [l11]; omega)
    rw [Int.toNat_natCast] at hd
    have hv1 : (v + 1).toInt = ((j + 1 : Nat) : Int) := by rw [i_add hv one (by omega) (by omega)]; omega
    have hmem : lSs.getD j 0 ∈ lSs := by
      rw [List.getD_eq_getElem?_getD, List.getElem?_eq_getElem (by rw [l11]; omega)]
      exact List.getElem_mem _
    have hr := ls_c _ hmem
    have htake : lSs.take (j + 1) = lSs.take j ++ [lSs.getD j 0] := by
      rw [List.take_add_one, List.getD_eq_getElem?_getD, List.getElem?_eq_getElem (by rw [l11]; omega)]; rfl
    have hsx : (sgB x = x ∧ x < 128) ∨ (sgB x < 0 ∧ 128 ≤ x) := by
      unfold sgB
      split <;> omega
    have hcd := i_eq hd hc
    have hdx : d = c ↔ lSs.getD j 0 = x := by
      rw [hcd]
      omega
    have pre : b_X3_next_306 (some τ) c (v, g, m) = if d = c then some (.inr (v + 1, g, zsI m τ 4 c)) else some (.inr (v + 1, g, m)) := by
      unfold b_X3_next_306
      dsimp only
      rw [s1, e_rc (ci := 18) s2.2.1, c_length s2]
      dsimp only [Option.bind_some]
      rw [if_neg (fun y => by have := (i_le h11 hv).mp y; omega), e_rc (ci := 18) s2.2.1, ed]
      dsimp only [Option.bind_some]
      rw [e_pi (ci := 3) h.1 h.2.1]
      rfl
    by_cases heq : d = c
    · rw [if_pos heq] at pre
      have hx2 := hdx.mp heq
      have f1 : tkF τ m (zsI m τ 4 c) := tkF.up
      have hbs : cBs g m g (zsI m τ 4 c) := ⟨rfl, rfl, fun q hq => ⟨rfl, f1.1 q (by have := h.2.1; omega), by rw [f1.2.2]⟩⟩
      obtain ⟨m', x1, x2, x3, x4⟩ := ih F (j + 1) (v + 1) (zsI m τ 4 c) (cTa_c h f1 (f_k (by omega))) (cW_c hbs hW') hv1 (by omega) (by omega) (by
        rw [f_s, htake, hc, if_pos (by rw [hx2]; simp)]
        omega)
      exact ⟨m', (zLoop_r pre).trans x1, f1.tr x2, x3, fun i hi => (x4 i hi).trans (f_k hi)⟩
    · rw [if_neg heq] at pre
      obtain ⟨m', x1, x2, x3, x4⟩ := ih F (j + 1) (v + 1) m h hW' hv1 (by omega) (by omega) (by
        rw [hs, htake]
        have hne : ¬ lSs.getD j 0 = x := fun y => heq (hdx.mpr y)
        have : (lSs.take j ++ [lSs.getD j 0]).contains x = (lSs.take j).contains x := by
          rw [Bool.eq_iff_iff, List.contains_iff_mem, List.contains_iff_mem, List.mem_append, List.mem_singleton]
          exact ⟨fun y => y.resolve_right (fun z => hne z.symm), Or.inl⟩
        rw [this])
      exact ⟨m', (zLoop_r pre).trans x1, x2, x3, x4⟩
end
