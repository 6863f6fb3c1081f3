/-! COMPONENT READING: the next token, all of it -/
set_option maxRecDepth 100000
section
variable {τ ta : Nat} {n kd : Int} {tp : Int → Int} {g : zGd} {m : zMm} {st : aSt}
/-- what lies in the fields -/
def cTo (τ : Nat) (m : zMm) (tok : Int × Int × Int × Int) : Prop := (zI m τ 2).toInt = tok.2.2.2 ∧ (zI m τ 3).toInt = tok.2.2.1 ∧ (zI m τ 4).toInt = tok.1 ∧ (tok.1 = 300 → (zI m τ 5).toInt = tok.2.1)
theorem cW_t (h : cTa τ ta n tp g m) (hW : cW g m) {m' : zMm} (f : tkF τ m m') : cW g m' := cW_c ⟨rfl, rfl, fun q hq => ⟨rfl, f.1 q (by have := h.2.1; omega), by rw [f.2.2]⟩⟩ hW
def fRest (g : zGd) (m17 : zMm) (a0 : Option Nat) : Option (zGd × zMm) :=
(zgi g m17 3 2 a0).bind fun v18 =>
(zgi g m17 3 1 a0).bind fun v19 =>
if v18 = v19 then ((zpi g m17 3 4 a0 (301 : Int32)).bind fun m107 =>
some ((g, m107)))
else ((zgr g m17 3 0 a0).bind fun r20 =>
(zgi g m17 3 2 a0).bind fun v21 =>
(zald 102 g m17 r20 v21).bind fun v22 =>
(f_X3_isLetter v22).bind fun v23 =>
if v23 = 0 then ((zgr g m17 3 0 a0).bind fun r24 =>
(zgi g m17 3 2 a0).bind fun v25 =>
(zald 102 g m17 r24 v25).bind fun v26 =>
(f_X3_isDigit v26).bind fun v27 =>
if v27 = 0 then ((zgr g m17 3 0 a0).bind fun r28 =>
(zgi g m17 3 2 a0).bind fun v29 =>
(zald 102 g m17 r28 v29).bind fun v30 =>
(zgi g m17 3 2 a0).bind fun v31 =>
(zpi g m17 3 2 a0 (v31 + (1 : Int32))).bind fun m32 =>
(zpi g m32 3 4 a0 (302 : Int32)).bind fun m33 =>
(zLoop (b_X3_next_306 a0 v30) zFuel ((0 : Int32), g, m33)).bind fun (g35, m36) =>
zEx (σ := Unit) (if v30 = (60 : Int32) then (some (.inr ()))
else (if v30 = (62 : Int32) then (some (.inr ()))
else (some (.inl ((g35, m36)))))) fun _ =>
(zgi g35 m36 3 2 a0).bind fun v49 =>
(zgi g35 m36 3 1 a0).bind fun v50 =>
if v50 ≤ v49 then (some ((g35, m36)))
else ((zgr g35 m36 3 0 a0).bind fun r51 =>
(zgi g35 m36 3 2 a0).bind fun v52 =>
(zald 102 g35 m36 r51 v52).bind fun v53 =>
if v53 = (61 : Int32) then (((if v30 = (60 : Int32) then (some ((303 : Int32)))
else (some ((304 : Int32))) : Option (Int32))).bind fun v55 =>
(zpi g35 m36 3 4 a0 v55).bind fun m56 =>
(zgi g35 m56 3 2 a0).bind fun v57 =>
(zpi g35 m56 3 2 a0 (v57 + (1 : Int32))).bind fun m58 =>
some ((g35, m58)))
else (some ((g35, m36)))))
else ((zpi g m17 3 4 a0 (300 : Int32)).bind fun m59 =>
(zpi g m59 3 5 a0 (0 : Int32)).bind fun m60 =>
(zLoop (b_X3_next_209 g a0) zFuel m60).bind fun m62 =>
some ((g, m62))))
else ((zLoop (b_X3_next_96 g a0) zFuel m17).bind fun m80 =>
(zpi g m80 3 4 a0 (302 : Int32)).bind fun m91 =>
(zLoop (b_X3_next_144 a0) zFuel ((0 : Int32), g, m91)).bind fun (g93, m94) =>
some ((g93, m94))))
theorem c_rest (hb : ∀ i, 0 ≤ i → i < n → 0 ≤ tp i ∧ tp i ≤ 255) (n300 : n ≤ 300) (h : cTa τ ta n tp g m) (hW : cW g m) {p : Int} (h2 : (zI m τ 2).toInt = p) (h3 : (zI m τ 3).toInt = p) (p0 : 0 ≤ p) (pn : p ≤ n) {tok : Int × Int × Int × Int} (htok : tok = if n ≤ p then (301, 0, p, p) else if lDg (tp p) = true then (300, lNm tp (n - p).toNat p 0, p, lRn lDg tp (n - p).toNat p) else if lLt (tp p) = true then (lWd (lLs tp p (lRn lLt tp (n - p).toNat p)), 0, p, lRn lLt tp (n - p).toNat p) else ((lSg (tp p) (if p + 1 < n then tp (p + 1) else -1)).1, 0, p, p + (lSg (tp p) (if p + 1 < n then tp (p + 1) else -1)).2)) : ∃ m', fRest g m (some τ) = some (g, m') ∧ tkF τ m m' ∧ cTo τ m' tok ∧ ∀ j, j ≠ 2 → j ≠ 4 → j ≠ 5 → zI m' τ j = zI m τ j := by
  have hn := h.2.2.2.2.2.2.2.2
  have one : (1 : Int32).toInt = 1 := by decide
  have zero : (0 : Int32).toInt = 0 := by decide
  have hpn := i_eq h2 hn
  by_cases h1 : n ≤ p
  · rw [if_pos h1] at htok
    refine ⟨zsI m τ 4 301, pw_to ?_, tkF.up, ?_, fun j _ hj _ => f_k hj⟩
    · unfold fRest
      refine pw_beq (e_gi (ci := 3) h.1) (pw_beq (e_gi (ci := 3) h.1) (pw_ite (fun _ => ?_) (fun y => absurd (hpn.mpr (by omega)) y)))
      exact pw_beq (e_pi (ci := 3) h.1 h.2.1 _) (pw_some rfl)
    · rw [htok]
      exact ⟨by rw [f_k (by omega)]; exact h2, by rw [f_k (by omega)]; exact h3, by rw [f_s]; show (301 : Int32).toInt = 301; decide, fun y => absurd y (by show ¬ (301 : Int) = 300; omega)⟩
  rw [if_neg h1] at htok
  obtain ⟨c, ec, hc⟩ := c_byte h n300 h2 p0 (by omega)
  have hbp := hb p p0 (by omega)
  have hzt : zgr g m 3 0 (some τ) = some (some ta) := by rw [e_gr (ci := 3) h.1, h.2.2.2.1]
  have pre : ∀ X, (if (if lLt (tp p) = true then (1 : Int32) else 0) = 0 then (if (if lDg (tp p) = true then (1 : Int32) else 0) = 0 then ((zpi g m 3 2 (some τ) (zI m τ 2 + (1 : Int32))).bind fun m32 => (zpi g m32 3 4 (some τ) (302 : Int32)).bind fun m33 => (zLoop (b_X3_next_306 (some τ) c) zFuel ((0 : Int32), g, m33)).bind fun (g35, m36) => zEx (σ := Unit) (if c = (60 : Int32) then (some (.inr ())) else (if c = (62 : Int32) then (some (.inr ())) else (some (.inl ((g35, m36)))))) fun _ => (zgi g35 m36 3 2 (some τ)).bind fun v49 => (zgi g35 m36 3 1 (some τ)).bind fun v50 => if v50 ≤ v49 then (some ((g35, m36))) else ((zgr g35 m36 3 0 (some τ)).bind fun r51 => (zgi g35 m36 3 2 (some τ)).bind fun v52 => (zald 102 g35 m36 r51 v52).bind fun v53 => if v53 = (61 : Int32) then (((if c = (60 : Int32) then (some ((303 : Int32))) else (some ((304 : Int32))) : Option (Int32))).bind fun v55 => (zpi g35 m36 3 4 (some τ) v55).bind fun m56 => (zgi g35 m56 3 2 (some τ)).bind fun v57 => (zpi g35 m56 3 2 (some τ) (v57 + (1 : Int32))).bind fun m58 => some ((g35, m58))) else (some ((g35, m36))))) else ((zpi g m 3 4 (some τ) (300 : Int32)).bind fun m59 => (zpi g m59 3 5 (some τ) (0 : Int32)).bind fun m60 => (zLoop (b_X3_next_209 g (some τ)) zFuel m60).bind fun m62 => some ((g, m62)))) else ((zLoop (b_X3_next_96 g (some τ)) zFuel m).bind fun m80 => (zpi g m80 3 4 (some τ) (302 : Int32)).bind fun m91 => (zLoop (b_X3_next_144 (some τ)) zFuel ((0 : Int32), g, m91)).bind fun (g93, m94) => some ((g93, m94)))) = some X → fRest g m (some τ) = some X := fun X hX => by
    refine pw_to ?_
    unfold fRest
    refine pw_beq (e_gi (ci := 3) h.1) (pw_beq (e_gi (ci := 3) h.1) (pw_ite (fun y => absurd (hpn.mp y) (by omega)) (fun _ => ?_)))
    refine pw_beq hzt (pw_beq (e_gi (ci := 3) h.1) (pw_beq ec (pw_beq (c_lt hbp hc) ?_)))
    by_cases q1 : lLt (tp p) = true
    · rw [if_pos q1] at hX ⊢
      exact pw_ite (fun y => absurd y (by decide)) (fun _ => by rw [if_neg (by decide)] at hX; exact ⟨X, hX, rfl⟩)
    · rw [if_neg q1] at hX ⊢
      refine pw_ite (fun _ => ?_) (fun y => absurd (by first | rfl | trivial) y)
      rw [if_pos rfl] at hX
      refine pw_beq hzt (pw_beq (e_gi (ci := 3) h.1) (pw_beq ec (pw_beq (c_dg hbp hc) ?_)))
      by_cases q2 : lDg (tp p) = true
      · rw [if_pos q2] at hX ⊢
        exact pw_ite (fun y => absurd y (by decide)) (fun _ => by rw [if_neg (by decide)] at hX; exact ⟨X, hX, rfl⟩)
      · rw [if_neg q2] at hX ⊢
        refine pw_ite (fun _ => ?_) (fun y => absurd (by first | rfl | trivial) y)
        rw [if_pos rfl] at hX
        refine pw_beq hzt (pw_beq (e_gi (ci := 3) h.1) (pw_beq ec (pw_beq (e_gi (ci := 3) h.1) ?_)))
        exact ⟨X, hX, rfl⟩
  have excl : lDg (tp p) = true → ¬ lLt (tp p) = true := fun a b => by
    have a := of_decide_eq_true a
    have b := of_decide_eq_true b
    omega
  by_cases q2 : lDg (tp p) = true
  · rw [if_pos q2] at htok
    obtain ⟨A, eA⟩ : ∃ A, A = zsI (zsI m τ 4 300) τ 5 0 := ⟨_, rfl⟩
    have fA : tkF τ m A := by rw [eA]; exact tkF.up.tr tkF.up
    have Aj : ∀ j, j ≠ 4 → j ≠ 5 → zI A τ j = zI m τ j := fun j a b => by rw [eA, f_k b, f_k a]
    obtain ⟨m', x1, x2, x3, x4, x5⟩ := c_figures hb n300 (n - p).toNat zFuel p 0 A (cTa_c h fA (Aj 1 (by omega) (by omega))) (by rw [Aj 2 (by omega) (by omega)]; exact h2) p0 (by omega) (by unfold zFuel; omega) (by rw [eA, f_s]; decide) (by omega) (by omega)
    refine ⟨m', pre _ ?_, fA.tr x2, ?_, fun j a b c => (x5 j a c).trans (Aj j b c)⟩
    · rw [if_neg (excl q2), if_pos rfl, if_pos q2, if_neg (by decide)]
      refine pw_to (pw_beq (e_pi (ci := 3) h.1 h.2.1 _) (pw_beq (e_pi (ci := 3) h.1 h.2.1 _) ?_))
      rw [← eA]
      exact pw_beq x1 (pw_some rfl)
    · rw [htok]
      exact ⟨x3, by rw [x5 3 (by omega) (by omega), Aj 3 (by omega) (by omega)]; exact h3, by rw [x5 4 (by omega) (by omega), eA, f_k (by omega), f_s]; show (300 : Int32).toInt = 300; decide, fun _ => x4⟩
  rw [if_neg q2] at htok
  by_cases q1 : lLt (tp p) = true
  · rw [if_pos q1] at htok
    obtain ⟨m1, x1, x2, x3, x4⟩ := c_letters hb n300 (n - p).toNat zFuel p m h h2 p0 (by omega) (by unfold zFuel; omega)
    obtain ⟨e, ee⟩ : ∃ e, e = lRn lLt tp (n - p).toNat p := ⟨_, rfl⟩
    have hrn := lRn_b lLt tp (n - p).toNat p
    rw [← ee] at htok x3 hrn
    obtain ⟨A, eA⟩ : ∃ A, A = zsI m1 τ 4 302 := ⟨_, rfl⟩
    have fA : tkF τ m A := by rw [eA]; exact x2.tr tkF.up
    have hlo : lOk (lLs tp p e) := fun y hy => by
      unfold lLs at hy
      obtain ⟨i, hi, rfl⟩ := List.mem_map.mp hy
      have hi := List.mem_range.mp hi
      have := lRn_all (q := lLt) (tp := tp) (n - p).toNat p (p + (i : Int)) (by omega) (by rw [← ee]; omega)
      have := of_decide_eq_true this
      omega
    have hA := cTa_c h fA (by rw [eA, f_k (by omega), x4 1 (by omega)])
    obtain ⟨m', y1, y2, y3, y4⟩ := c_words hb n300 p0 hrn.1 (by omega) hlo 25 zFuel 0 0 A hA (cW_t h hW fA) (by rw [eA, f_k (by omega)]; exact x3) (by rw [eA, f_k (by omega), x4 3 (by omega)]; exact h3) (by decide) (by omega) (by unfold zFuel; omega) (Or.inl ⟨by rw [eA, f_s]; decide, fun i hi => absurd hi (Nat.not_lt_zero _)⟩)
    refine ⟨m', pre _ ?_, fA.tr y2, ?_, fun j a b c => by rw [y4 j b, eA, f_k b, x4 j a]⟩
    · rw [if_pos q1, if_neg (by decide)]
      refine pw_to (pw_beq x1 (pw_beq (e_pi (ci := 3) h.1 h.2.1 _) ?_))
      rw [← eA]
      exact pw_beq y1 (pw_some rfl)
    · rw [htok]
      refine ⟨by rw [y4 2 (by omega), eA, f_k (by omega)]; exact x3, by rw [y4 3 (by omega), eA, f_k (by omega), x4 3 (by omega)]; exact h3, y3, fun y => ?_⟩
      have := tw_s (lLs tp p e)
      have y : lWd (lLs tp p e) = 300 := y
      omega
  rw [if_neg q1] at htok
  -- a sign
  obtain ⟨x, ex⟩ : ∃ x, x = tp p := ⟨_, rfl⟩
  obtain ⟨d, ed⟩ : ∃ d, d = if p + 1 < n then tp (p + 1) else -1 := ⟨_, rfl⟩
  rw [← ex, ← ed] at htok
  rw [← ex] at hc hbp
  have hsx : (sgB x = x ∧ x < 128) ∨ (sgB x < 0 ∧ 128 ≤ x) := by
    unfold sgB
    split <;> omega
  obtain ⟨A, eA⟩ : ∃ A, A = zsI (zsI m τ 2 (zI m τ 2 + 1)) τ 4 302 := ⟨_, rfl⟩
  have fA : tkF τ m A := by rw [eA]; exact tkF.up.tr tkF.up
  have Aj : ∀ j, j ≠ 2 → j ≠ 4 → zI A τ j = zI m τ j := fun j a b => by rw [eA, f_k b, f_k a]
  have A2 : (zI A τ 2).toInt = p + 1 := by rw [eA, f_k (by omega), f_s]; exact i_add h2 one (by omega) (by omega)
  have hA := cTa_c h fA (Aj 1 (by omega) (by omega))
  obtain ⟨m1, x1, x2, x3, x4⟩ := c_signs hc hbp 11 zFuel 0 0 A hA (cW_t h hW fA) zero (by omega) (by unfold zFuel; omega) (by
    rw [eA, f_s]
    show (302 : Int32).toInt = 302
    decide)
  have h60 := i_eq hc (show (60 : Int32).toInt = 60 by decide)
  have h62 := i_eq hc (show (62 : Int32).toInt = 62 by decide)
  have hm1 := cTa_c hA x2 (x4 1 (by omega))
  have m12 : (zI m1 τ 2).toInt = p + 1 := by rw [x4 2 (by omega)]; exact A2
  have m13 : (zI m1 τ 3).toInt = p := by rw [x4 3 (by omega), Aj 3 (by omega) (by omega)]; exact h3
  have fm : tkF τ m m1 := fA.tr x2
  have pre2 : ∀ X, (zEx (σ := Unit) (if c = (60 : Int32) then (some (.inr ())) else (if c = (62 : Int32) then (some (.inr ())) else (some (.inl ((g, m1)))))) fun _ => (zgi g m1 3 2 (some τ)).bind fun v49 => (zgi g m1 3 1 (some τ)).bind fun v50 => if v50 ≤ v49 then (some ((g, m1))) else ((zgr g m1 3 0 (some τ)).bind fun r51 => (zgi g m1 3 2 (some τ)).bind fun v52 => (zald 102 g m1 r51 v52).bind fun v53 => if v53 = (61 : Int32) then (((if c = (60 : Int32) then (some ((303 : Int32))) else (some ((304 : Int32))) : Option (Int32))).bind fun v55 => (zpi g m1 3 4 (some τ) v55).bind fun m56 => (zgi g m56 3 2 (some τ)).bind fun v57 => (zpi g m56 3 2 (some τ) (v57 + (1 : Int32))).bind fun m58 => some ((g, m58))) else (some ((g, m1))))) = some X → fRest g m (some τ) = some X := fun X hX => by
    refine pre _ ?_
    rw [if_neg q1, if_pos rfl, if_neg q2, if_pos rfl]
    refine pw_to (pw_beq (e_pi (ci := 3) h.1 h.2.1 _) (pw_beq (e_pi (ci := 3) h.1 h.2.1 _) ?_))
    rw [← eA]
    refine pw_beq x1 ?_
    exact ⟨X, hX, rfl⟩
  have two : (x = 60 ∨ x = 62) → (if c = (60 : Int32) then (some (.inr ()) : Option ((zGd × zMm) ⊕ Unit)) else (if c = (62 : Int32) then (some (.inr ())) else (some (.inl ((g, m1)))))) = some (.inr ()) := fun y => by
    by_cases q : c = 60
    · rw [if_pos q]
    · rw [if_neg q, if_pos (h62.mpr (by have d : ¬ sgB x = 60 := fun z => q (h60.mpr z); omega))]
  have hmn := hm1.2.2.2.2.2.2.2.2
  have hcont : lSs.contains x = true ↔ (x = 60 ∨ x = 62 ∨ x = 61 ∨ x = 35 ∨ x = 43 ∨ x = 45 ∨ x = 42 ∨ x = 47 ∨ x = 40 ∨ x = 41 ∨ x = 59) := by
    unfold lSs
    simp [List.contains_iff_mem]
  by_cases hd : (x = 60 ∨ x = 62) ∧ d = 61
  · have hp1 : p + 1 < n := by
      by_cases y : p + 1 < n
      · exact y
      · rw [if_neg y] at ed; omega
    rw [if_pos hp1] at ed
    obtain ⟨c2, ec2, hc2⟩ := c_byte hm1 n300 m12 (by omega) hp1
    have hs2 : sgB (tp (p + 1)) = 61 := by rw [← ed, hd.2]; decide
    rw [hs2] at hc2
    obtain ⟨k, ek, hk⟩ : ∃ k : Int32, (if c = (60 : Int32) then (some ((303 : Int32))) else (some ((304 : Int32))) : Option (Int32)) = some k ∧ k.toInt = if x = 60 then 303 else 304 := by
      by_cases q : c = 60
      · have := h60.mp q
        exact ⟨303, by rw [if_pos q], by rw [if_pos (by omega)]; decide⟩
      · have d : ¬ sgB x = 60 := fun z => q (h60.mpr z)
        exact ⟨304, by rw [if_neg q], by rw [if_neg (by omega)]; decide⟩
    obtain ⟨B, eB⟩ : ∃ B, B = zsI (zsI m1 τ 4 k) τ 2 (zI (zsI m1 τ 4 k) τ 2 + 1) := ⟨_, rfl⟩
    refine ⟨B, pre2 _ ?_, fm.tr (by rw [eB]; exact tkF.up.tr tkF.up), ?_, fun j a b _ => by rw [eB, f_k a, f_k b, x4 j b, Aj j a b]⟩
    · rw [two hd.1]
      refine pw_to (pw_exr ?_)
      refine pw_beq (e_gi (ci := 3) hm1.1) (pw_beq (e_gi (ci := 3) hm1.1) (pw_ite (fun y => absurd ((i_le hmn m12).mp y) (by omega)) (fun _ => ?_)))
      refine pw_beq (e_gr (ci := 3) hm1.1) ?_
      rw [hm1.2.2.2.1]
      refine pw_beq (e_gi (ci := 3) hm1.1) (pw_beq ec2 (pw_ite (fun _ => ?_) (fun y => absurd ((i_eq hc2 (show (61 : Int32).toInt = 61 by decide)).mpr rfl) y)))
      refine pw_beq ek (pw_beq (e_pi (ci := 3) hm1.1 hm1.2.1 _) (pw_beq (e_gi (ci := 3) hm1.1) (pw_beq (e_pi (ci := 3) hm1.1 hm1.2.1 _) (pw_some ?_))))
      rw [eB]
    · have es : lSg x d = (if x = 60 then 303 else 304, 2) := by
        unfold lSg
        by_cases q : x = 60
        · rw [if_pos ⟨q, hd.2⟩, if_pos q]
        · rw [if_neg (fun y => q y.1), if_pos ⟨hd.1.resolve_left q, hd.2⟩, if_neg q]
      rw [htok, es]
      refine ⟨?_, ?_, ?_, fun y => ?_⟩
      · show _ = p + 2
        rw [eB, f_s, f_k (by omega), i_add m12 one (by omega) (by omega)]
        omega
      · rw [eB, f_k (by omega), f_k (by omega)]; exact m13
      · rw [eB, f_k (by omega), f_s]; exact hk
      · have y : (if x = 60 then (303 : Int) else 304) = 300 := y
        split at y <;> omega
  · have es : lSg x d = if lSs.contains x = true then (x, 1) else (302, 1) := by
      unfold lSg
      rw [if_neg (fun y => hd ⟨Or.inl y.1, y.2⟩), if_neg (fun y => hd ⟨Or.inr y.1, y.2⟩)]
    refine ⟨m1, pre2 _ ?_, fm, ?_, fun j a b _ => by rw [x4 j b, Aj j a b]⟩
    · by_cases q : x = 60 ∨ x = 62
      · rw [two q]
        refine pw_to (pw_exr ?_)
        by_cases hp1 : p + 1 < n
        · rw [if_pos hp1] at ed
          obtain ⟨c2, ec2, hc2⟩ := c_byte hm1 n300 m12 (by omega) hp1
          have hbb := hb (p + 1) (by omega) hp1
          have hs2 : (sgB (tp (p + 1)) = tp (p + 1) ∧ tp (p + 1) < 128) ∨ (sgB (tp (p + 1)) < 0 ∧ 128 ≤ tp (p + 1)) := by
            unfold sgB
            split <;> omega
          refine pw_beq (e_gi (ci := 3) hm1.1) (pw_beq (e_gi (ci := 3) hm1.1) (pw_ite (fun y => absurd ((i_le hmn m12).mp y) (by omega)) (fun _ => ?_)))
          refine pw_beq (e_gr (ci := 3) hm1.1) ?_
          rw [hm1.2.2.2.1]
          refine pw_beq (e_gi (ci := 3) hm1.1) (pw_beq ec2 (pw_ite (fun y => ?_) (fun _ => pw_some rfl)))
          have := (i_eq hc2 (show (61 : Int32).toInt = 61 by decide)).mp y
          exact absurd ⟨q, by omega⟩ hd
        · refine pw_beq (e_gi (ci := 3) hm1.1) (pw_beq (e_gi (ci := 3) hm1.1) (pw_ite (fun _ => pw_some rfl) (fun y => absurd ((i_le hmn m12).mpr (by omega)) y)))
      · rw [if_neg (fun y => by have := h60.mp y; omega), if_neg (fun y => by have := h62.mp y; omega)]
        rfl
    · rw [htok, es]
      by_cases hco : lSs.contains x = true
      · rw [if_pos hco] at x3 ⊢
        exact ⟨m12, m13, x3, fun y => by have y : x = 300 := y; omega⟩
      · rw [if_neg hco] at x3 ⊢
        exact ⟨m12, m13, x3, fun y => absurd y (by show ¬ (302 : Int) = 300; omega)⟩
theorem c_next (hb : ∀ i, 0 ≤ i → i < n → 0 ≤ tp i ∧ tp i ≤ 255) (n300 : n ≤ 300) (h : cTa τ ta n tp g m) (hW : cW g m) (hf : cTf τ m st kd) (hv : 0 ≤ st.a ∧ st.a ≤ n) : ∃ m', f_X3_next g m (some τ) = some (g, m') ∧ tkF τ m m' ∧ cTa τ ta n tp g m' ∧ cTf τ m' (aNx (lx tp n) st) kd := by
  obtain ⟨f2, f3, f4, f5, f6, f7⟩ := hf
  obtain ⟨m1, x1, x2, x3, x4⟩ := c_blank hb n300 (n - st.a).toNat zFuel st.a m h f2 hv.1 (by omega) (by unfold zFuel; omega)
  have hrn := lRn_b lBl tp (n - st.a).toNat st.a
  obtain ⟨p, ep⟩ : ∃ p, p = lRn lBl tp (n - st.a).toNat st.a := ⟨_, rfl⟩
  rw [← ep] at x3 hrn
  have h1 := cTa_c h x2 (x4 1 (by omega))
  obtain ⟨A, eA⟩ : ∃ A, A = zsI m1 τ 3 (zI m1 τ 2) := ⟨_, rfl⟩
  have fA : tkF τ m A := by rw [eA]; exact x2.tr tkF.up
  have Aj : ∀ j, j ≠ 3 → zI A τ j = zI m1 τ j := fun j a => by rw [eA, f_k a]
  have hA := cTa_c h fA (by rw [Aj 1 (by omega), x4 1 (by omega)])
  obtain ⟨m', y1, y2, y3, y4⟩ := c_rest (tok := lx tp n st.a) hb n300 hA (cW_t h hW fA) (p := p) (by rw [Aj 2 (by omega)]; exact x3) (by rw [eA, f_s]; exact x3) (by omega) (by omega) (by unfold lx; dsimp only; rw [← ep])
  refine ⟨m', ?_, fA.tr y2, cTa_c hA y2 (y4 1 (by omega) (by omega) (by omega)), y3.1, y3.2.1, y3.2.2.1, y3.2.2.2, ?_, ?_⟩
  · have e : f_X3_next g m (some τ) = (zLoop (b_X3_next_0 g (some τ)) zFuel m).bind fun m2 => (zgi g m2 3 2 (some τ)).bind fun v16 => (zpi g m2 3 3 (some τ) v16).bind fun m17 => fRest g m17 (some τ) := rfl
    rw [e]
    refine pw_to (pw_beq x1 (pw_beq (e_gi (ci := 3) h1.1) (pw_beq (e_pi (ci := 3) h1.1 h1.2.1 _) ?_)))
    rw [← eA]
    exact pw_eq y1 rfl
  · rw [y4 6 (by omega) (by omega) (by omega), Aj 6 (by omega), x4 6 (by omega)]; exact f6
  · rw [y4 7 (by omega) (by omega) (by omega), Aj 7 (by omega), x4 7 (by omega)]; exact f7
end
