/-! JOIN: what is played -/
set_option maxRecDepth 100000
def pPc {α : Type} (P : Option α) (Q : α → Prop) : Prop := ∀ r, P = some r → Q r
section
variable {α β σ ρ : Type} {Q : α → Prop}
theorem pc_some {r : α} (h : Q r) : pPc (some r) Q := fun r' e => by cases e; exact h
theorem pc_bind {P : Option β} {K : β → Option α} (k : ∀ r, pPc (K r) Q) : pPc (P.bind K) Q := fun r e => by
  cases P with
  | none => cases e
  | some z => exact k z r e
theorem pc_bindA {P : Option β} {K : β → Option α} (A : β → Prop) (h : pPc P A) (k : ∀ r, A r → pPc (K r) Q) : pPc (P.bind K) Q := fun r e => by
  cases P with
  | none => cases e
  | some z => exact k z (h z rfl) r e
theorem pc_ite {p : Prop} [Decidable p] {A B : Option α} (h : pPc A Q) (h' : pPc B Q) : pPc (if p then A else B) Q := by
  by_cases e : p
  · rw [if_pos e]; exact h
  · rw [if_neg e]; exact h'
theorem pc_p32 {x : Int} {K : Int → Option α} (k : pPc (K x) Q) : pPc (p32 x K) Q := fun r e => by
  unfold p32 at e
  by_cases y : -2147483648 ≤ x ∧ x ≤ 2147483647
  · rw [if_pos y] at e; exact k r e
  · rw [if_neg y] at e; cases e
theorem pc_zlt {γ : Type} {x : γ} {K : γ → Option α} (k : pPc (K x) Q) : pPc (zlt x K) Q := k
theorem pc_ald {S : zP} {c n : Nat} {i : Int} {K : Int → Option α} (k : pPc (K (S c i)) Q) : pPc ((pald S c n i).bind K) Q := fun r e => by
  unfold pald at e
  by_cases y : 0 ≤ i ∧ i < (n : Int)
  · rw [if_pos y] at e; exact k r e
  · rw [if_neg y] at e; cases e
theorem pc_ast {S : zP} {c n : Nat} {i v : Int} {K : zP → Option α} (k : pPc (K (pup S c i v)) Q) : pPc ((past S c n i v).bind K) Q := fun r e => by
  unfold past at e
  by_cases y : 0 ≤ i ∧ i < (n : Int)
  · rw [if_pos y] at e; exact k r e
  · rw [if_neg y] at e; cases e
theorem pc_ex {P : Option (α ⊕ σ)} {K : σ → Option α} (h : pPc P (fun x => match x with | .inl r => Q r | .inr s => pPc (K s) Q)) : pPc (zEx P K) Q := fun r e => by
  cases P with
  | none => cases e
  | some z =>
    cases z with
    | inl r' =>
      have k := h _ rfl
      have e : some r' = some r := e
      cases e; exact k
    | inr s => exact h _ rfl r e
theorem pc_loop {b : σ → Option (ρ ⊕ σ)} {q : ρ → Prop} (h : ∀ s, pPc (b s) (fun x => match x with | .inl r => q r | .inr _ => True)) : ∀ (n : Nat) (s : σ), pPc (zLoop b n s) q
  | 0, _ => fun r e => by cases e
  | n + 1, s => fun r e => by
    rw [zLoop_s] at e
    cases hb : b s with
    | none => rw [hb] at e; cases e
    | some z =>
      rw [hb] at e
      cases z with
      | inl r' =>
        have k := h s _ hb
        have e : some r' = some r := e
        cases e; exact k
      | inr s' => exact pc_loop h n s' r e
end
/-! what calls answer at most -/
theorem pc_down {S : zP} {k n : Int} : pPc (p_X0_down S k n) (fun z => z.1 = 0 ∨ z.1 = 1) := by
  unfold p_X0_down
  exact pc_bind fun _ => pc_ite (pc_some (Or.inl rfl)) (pc_bind fun _ => pc_ite (pc_some (Or.inl rfl)) (pc_bind fun _ => pc_p32 (pc_bind fun _ => pc_p32 (pc_bind fun _ => pc_some (Or.inr rfl)))))
theorem pc_strap {S : zP} {k : Int} : pPc (p_X0_strap S k) (fun z => z.1 = 0 ∨ z.1 = 1) := by
  unfold p_X0_strap
  exact pc_bind fun _ => pc_ite (pc_some (Or.inl rfl)) (pc_bind fun _ => pc_bind fun _ => pc_zlt (pc_zlt (pc_bind fun _ => pc_some (Or.inr rfl))))
theorem pc_swap {S : zP} {k n : Int} : pPc (p_X0_swap S k n) (fun z => z.1 = 0 ∨ z.1 = 1) := by
  unfold p_X0_swap
  exact pc_bind fun _ => pc_ite (pc_some (Or.inl rfl)) (pc_bind fun _ => pc_bind fun _ => pc_bind fun _ => pc_bind fun _ => pc_some (Or.inr rfl))
theorem pc_passes {W : pW} {S : zP} {k : Int} : pPc (p_X0_passesAll W S k) (fun z => z.1 = 0 ∨ z.1 = 1) := by
  unfold p_X0_passesAll
  refine pc_ex (fun r e => ?_)
  have l := pc_loop (b := pb_X0_passesAll_2 W k) (q := fun x => match x with | .inl z => z.1 = 0 | .inr _ => True) (fun s => by
    obtain ⟨v, S⟩ := s
    unfold pb_X0_passesAll_2
    refine pc_ite (pc_some trivial) (pc_bind fun r => ?_)
    obtain ⟨v6, S7⟩ := r
    exact pc_ite (pc_some rfl) (pc_p32 (pc_some trivial))) zFuel (0, S) r e
  cases r with
  | inl z => exact Or.inl l
  | inr s => exact pc_some (Or.inr rfl)
theorem pc_kin {T : zP} {k n : Int} : pPc (p_X2_kin T k n) (fun z => z.1 = -1 ∨ z.1 = T 1 0) := by
  unfold p_X2_kin
  exact pc_bind fun _ => pc_ite (pc_some (Or.inl rfl)) (pc_bind fun _ => pc_ite (pc_some (Or.inl rfl)) (pc_bind fun _ => pc_ite (pc_some (Or.inl rfl)) (pc_ald (pc_p32 (pc_bind fun _ => pc_p32 (pc_bind fun _ => pc_bind fun _ => pc_bind fun _ => pc_p32 (pc_bind fun _ => pc_some (Or.inr rfl))))))))
theorem pc_held {x : Int} : pPc (p_X2_held x 0 99) (fun v => 0 ≤ v) := by
  unfold p_X2_held
  by_cases y : 0 ≤ x
  · rw [if_pos y]
    exact pc_ite (pc_p32 (pc_some y)) (pc_some (by decide))
  · rw [if_neg y]
    exact pc_some (by decide)
theorem pc_more {T : zP} {k : Int} : pPc (p_X2_more T k) (fun T' => 0 ≤ T' 1 (11 + k)) := by
  unfold p_X2_more
  exact pc_p32 (pc_bind fun _ => pc_p32 (pc_bindA _ pc_held (fun v hv => pc_ast (pc_some (by rw [pup_e rfl]; exact hv)))))
theorem pc_reach {T : zP} {k : Int} : pPc (p_X2_reach T k) (fun z => z.1 = -1 ∨ 0 ≤ z.1) := by
  unfold p_X2_reach
  exact pc_bind fun _ => pc_ite (pc_some (Or.inl rfl)) (pc_bind fun _ => pc_ite (pc_bind fun _ => pc_bindA _ pc_more (fun T' h => pc_p32 (pc_ald (pc_some (Or.inr h))))) (pc_some (Or.inl rfl)))
section
variable {D : iD} {b : Nat} {g : zGd} {m mc : zMm} {W : pW} {T : zP}
/-- a step of both, its answer a truth -/
theorem pl_b {P0 : Option (Int × zP)} {F0 : Option (Int32 × zMm)} {P2 : Option (Int × zP)} {F2 : zMm → Option (Int32 × zMm)} (r0 : pRf (qP qI (qM (bC b) m)) P0 F0) (r2 : ∀ w, zR w = zR m → iM b w = T → pRf (qP qI (qM (bM (b + 151)) w)) P2 (F2 w)) (q : pw P0 (fun z => pw P2 (fun t => z.1 = t.1 ∧ pRel W z.2 t.2))) (hb : pPc P0 (fun z => z.1 = 0 ∨ z.1 = 1)) :
    ∃ (v : Int32) (mc1 : zMm) (t : Int × zP), (F0.bind fun (v11, m12) => (zbo v11).bind fun z => some (z, m12)) = some (v, mc1) ∧ (P2.bind fun (v11, S12) => (pbo v11).bind fun z => some (z, S12)) = some t ∧ v.toInt = t.1 ∧ pRel W (iC b mc1) t.2 ∧ pOk (bC b) m mc1 ∧ ∀ w, zR w = zR m → iM b w = T → ∃ w1, t.2 = iM b w1 ∧ pOk (bM (b + 151)) w w1 := by
  obtain ⟨z, e0, t, e2, q1, q2⟩ := q
  obtain ⟨⟨v, mc1⟩, f0, a1, a2, a3⟩ := r0 z e0
  have a1 : z.1 = v.toInt := a1
  have a2 : z.2 = iC b mc1 := a2
  have z1 := hb z e0
  have hv : v = 0 ∨ v = 1 := by
    rcases z1 with y | y
    · exact Or.inl (Int32.toInt_inj.mp (by rw [← a1, y]; decide))
    · exact Or.inr (Int32.toInt_inj.mp (by rw [← a1, y]; decide))
  rw [a2] at q2
  obtain ⟨t1, t2⟩ := t
  have q1 : z.1 = t1 := q1
  refine ⟨v, mc1, (t1, t2), ?_, ?_, by rw [← a1, q1], q2, a3, fun w h1 h2 => ?_⟩
  · rw [f0]
    show ((zbo v).bind fun z => some (z, mc1)) = _
    have : zbo v = some v := if_pos hv
    rw [this]; rfl
  · rw [e2]
    show ((pbo t1).bind fun z => some (z, t2)) = _
    have : pbo t1 = some t1 := if_pos (by rw [← q1]; exact z1)
    rw [this]; rfl
  · obtain ⟨⟨v', w1⟩, f2, c1, c2, c3⟩ := r2 w h1 h2 _ e2
    exact ⟨w1, c2, c3⟩
/-- its answer a number, none or not -/
theorem pl_i {P0 : Option (Int × zP)} {F0 : Option (Int32 × zMm)} {P2 : Option (Int × zP)} {F2 : zMm → Option (Int32 × zMm)} (r0 : pRf (qP qI (qM (bC b) m)) P0 F0) (r2 : ∀ w, zR w = zR m → iM b w = T → pRf (qP qI (qM (bM (b + 151)) w)) P2 (F2 w)) (q : pw P0 (fun z => pw P2 (fun t => z.1 = t.1 ∧ pRel W z.2 t.2))) (hb : pPc P2 (fun z => z.1 = -1 ∨ 0 ≤ z.1)) :
    ∃ (v : Int32) (mc1 : zMm) (t : Int × zP), (F0.bind fun (v4, m5) => if v4 = (-1 : Int32) then (some (((0 : Int32), m5))) else (some (((1 : Int32), m5)))) = some (v, mc1) ∧ (P2.bind fun (v7, S8) => if v7 < 0 then (some (((0 : Int), S8))) else (some (((1 : Int), S8)))) = some t ∧ v.toInt = t.1 ∧ pRel W (iC b mc1) t.2 ∧ pOk (bC b) m mc1 ∧ ∀ w, zR w = zR m → iM b w = T → ∃ w1, t.2 = iM b w1 ∧ pOk (bM (b + 151)) w w1 := by
  obtain ⟨z, e0, t, e2, q1, q2⟩ := q
  obtain ⟨⟨v, mc1⟩, f0, a1, a2, a3⟩ := r0 z e0
  have a1 : z.1 = v.toInt := a1
  have a2 : z.2 = iC b mc1 := a2
  have z1 := hb t e2
  rw [a2] at q2
  obtain ⟨t1, t2⟩ := t
  have q1 : z.1 = t1 := q1
  have z1 : t1 = -1 ∨ 0 ≤ t1 := z1
  have hv := i_eq (v := v) (c := (-1 : Int32)) (x := t1) (y := -1) (by rw [← a1, q1]) (by decide)
  refine ⟨if v = -1 then 0 else 1, mc1, (if t1 < 0 then 0 else 1, t2), ?_, ?_, ?_, q2, a3, fun w h1 h2 => ?_⟩
  · rw [f0]
    show (if v = (-1 : Int32) then (some (((0 : Int32), mc1))) else (some (((1 : Int32), mc1)))) = _
    by_cases y : v = -1
    · rw [if_pos y, if_pos y]
    · rw [if_neg y, if_neg y]
  · rw [e2]
    show (if t1 < 0 then (some (((0 : Int), t2))) else (some (((1 : Int), t2)))) = _
    by_cases y : t1 < 0
    · rw [if_pos y, if_pos y]
    · rw [if_neg y, if_neg y]
  · show (if v = (-1 : Int32) then (0 : Int32) else 1).toInt = if t1 < 0 then 0 else 1
    by_cases y : v = -1
    · have := hv.mp y
      rw [if_pos y, if_pos (by omega)]; decide
    · have : ¬ t1 = -1 := fun u => y (hv.mpr u)
      rw [if_neg y, if_neg (by omega)]; decide
  · obtain ⟨⟨v', w1⟩, f2, c1, c2, c3⟩ := r2 w h1 h2 _ e2
    exact ⟨w1, c2, c3⟩
theorem pl_step (hL : pLC g (zR m) b) (hM : pLM g (zR m) (b + 151)) (hW : pWok g (bC b) m W) (hm : pOk (bC b) m mc) (hr : pRel W (iC b mc) T) {q : Nat} {c : aCl} {j : Int} (hD : tDo g mc q (200 + c.1) c.2.1 c.2.2 j) (c2 : ¬ c.1 < 2) (c7 : c.1 ≤ 7) {x : Int} (x0 : 0 ≤ x) (x1 : x + 2 < 2724) (e0 : T 3 x = c.1) (e1 : T 3 (x + 1) = c.2.1) (e2 : (c.1 ≤ 2 ∨ c.1 = 4 ∨ c.1 = 6) → T 3 (x + 2) = c.2.2) :
    ∃ (v : Int32) (mc1 : zMm) (t : Int × zP), f_X0_does g mc (some b) (some q) = some (v, mc1) ∧ p_X2_isPlayed T x = some t ∧ v.toInt = t.1 ∧ pRel W (iC b mc1) t.2 ∧ pOk (bC b) m mc1 ∧ ∀ w, zR w = zR m → iM b w = T → ∃ w1, t.2 = iM b w1 ∧ pOk (bM (b + 151)) w w1 := by
  obtain ⟨d1, d2, d3, d4, d5, d6⟩ := hD
  have k16 : (zK g q).1 = 16 + 1 := d1
  have hs : zrc g 16 (some q) (f_X16_sort g mc (some q)) = some (zI mc q 0) := by
    rw [e_rc (ci := 16) k16]
    unfold f_X16_sort
    rw [e_gi (ci := 16) k16]; rfl
  have ha : zrc g 16 (some q) (f_X16_a g mc (some q)) = some (zI mc q 1) := by
    rw [e_rc (ci := 16) k16]
    unfold f_X16_a
    rw [e_gi (ci := 16) k16]; rfl
  have hb : zrc g 16 (some q) (f_X16_b g mc (some q)) = some (zI mc q 2) := by
    rw [e_rc (ci := 16) k16]
    unfold f_X16_b
    rw [e_gi (ci := 16) k16]; rfl
  have q202 := i_eq d2 (show (202 : Int32).toInt = 202 by decide)
  have q203 := i_eq d2 (show (203 : Int32).toInt = 203 by decide)
  have q204 := i_eq d2 (show (204 : Int32).toInt = 204 by decide)
  have q205 := i_eq d2 (show (205 : Int32).toInt = 205 by decide)
  have q206 := i_eq d2 (show (206 : Int32).toInt = 206 by decide)
  have kb : (zK g b).1 = 0 + 1 := lc_o hL
  have al : ∀ i, 0 ≤ i → i < 2724 → pald T 3 2724 i = some (T 3 i) := fun i a c => if_pos ⟨a, c⟩
  have n0 := hr.1.1.1.2.1
  have pre : ∀ t : Int × zP, (if c.1 = 2 then ((p_X2_kin T c.2.1 (T 3 (x + 2))).bind fun (v7, S8) => if v7 < 0 then (some (((0 : Int), S8))) else (some (((1 : Int), S8))))
      else (if c.1 = 3 then ((p_X2_reach T c.2.1).bind fun (v9, S10) => if v9 < 0 then (some (((0 : Int), S10))) else (some (((1 : Int), S10))))
      else (if c.1 = 4 then ((p_X2_down T c.2.1 (T 3 (x + 2))).bind fun (v11, S12) => (pbo v11).bind fun z => some ((z, S12)))
      else (if c.1 = 5 then ((p_X2_strap T c.2.1).bind fun (v13, S14) => (pbo v13).bind fun z => some ((z, S14)))
      else (if c.1 = 6 then ((p_X2_swap T c.2.1 (T 3 (x + 2))).bind fun (v15, S16) => (pbo v15).bind fun z => some ((z, S16)))
      else (if c.1 = 7 then ((p_X2_arePassed T c.2.1).bind fun (v17, S18) => (pbo v17).bind fun z => some ((z, S18)))
      else (some (((1 : Int), T))))))))) = some t → p_X2_isPlayed T x = some t := fun t ht => by
    unfold p_X2_isPlayed
    rw [p32_n (by omega) (by omega), al _ (by omega) (by omega), Option.bind_some, p32_n (by omega) (by omega), al _ (by omega) (by omega), Option.bind_some, al _ x0 (by omega), Option.bind_some, e0, e1]
    exact ht
  have hMw : ∀ w, zR w = zR m → pLM g (zR w) (b + 151) := fun w e => by rw [e]; exact hM
  unfold f_X0_does
  rw [hs, Option.bind_some]
  by_cases w2 : c.1 = 2
  · have r := pl_i (T := T) (P2 := p_X2_kin T c.2.1 c.2.2) (F2 := fun w => f_X2_kin g w (some (b + 151)) (zI mc q 1) (zI mc q 2)) (rf_X0_kin (M := b) hL hm d3.symm d4.symm) (fun w h1 h2 => by rw [← h2]; exact rf_X2_kin (M := b + 151) (hMw w h1) pOk.rf d3.symm d4.symm) (q_kin hr c.2.1 c.2.2) (fun z hz => by
      rcases pc_kin z hz with y | y
      · exact Or.inl y
      · exact Or.inr (by rw [y]; exact n0))
    obtain ⟨v, mc1, t, u1, u2, u3⟩ := r
    refine ⟨v, mc1, t, ?_, pre t ?_, u3⟩
    · rw [if_pos (q202.mpr (by omega)), ha, Option.bind_some, hb, Option.bind_some, e_rc (ci := 0) kb]
      exact u1
    · rw [if_pos w2, e2 (by omega)]
      exact u2
  rw [if_neg (fun y => w2 (by have := q202.mp y; omega))]
  by_cases w3 : c.1 = 3
  · have r := pl_i (T := T) (P2 := p_X2_reach T c.2.1) (F2 := fun w => f_X2_reach g w (some (b + 151)) (zI mc q 1)) (rf_X0_reach (M := b) hL hm d3.symm) (fun w h1 h2 => by rw [← h2]; exact rf_X2_reach (M := b + 151) (hMw w h1) pOk.rf d3.symm) (q_reach hr c.2.1) pc_reach
    obtain ⟨v, mc1, t, u1, u2, u3⟩ := r
    refine ⟨v, mc1, t, ?_, pre t ?_, u3⟩
    · rw [if_pos (q203.mpr (by omega)), ha, Option.bind_some, e_rc (ci := 0) kb]
      exact u1
    · rw [if_neg w2, if_pos w3]
      exact u2
  rw [if_neg (fun y => w3 (by have := q203.mp y; omega))]
  by_cases w4 : c.1 = 4
  · have r := pl_b (T := T) (P2 := p_X2_down T c.2.1 c.2.2) (F2 := fun w => f_X2_down g w (some (b + 151)) (zI mc q 1) (zI mc q 2)) (rf_X0_down (M := b) hL hm d3.symm d4.symm) (fun w h1 h2 => by rw [← h2]; exact rf_X2_down (M := b + 151) (hMw w h1) pOk.rf d3.symm d4.symm) (q_down hr c.2.1 c.2.2) pc_down
    obtain ⟨v, mc1, t, u1, u2, u3⟩ := r
    refine ⟨v, mc1, t, ?_, pre t ?_, u3⟩
    · rw [if_pos (q204.mpr (by omega)), ha, Option.bind_some, hb, Option.bind_some, e_rc (ci := 0) kb]
      exact u1
    · rw [if_neg w2, if_neg w3, if_pos w4, e2 (by omega)]
      exact u2
  rw [if_neg (fun y => w4 (by have := q204.mp y; omega))]
  by_cases w5 : c.1 = 5
  · have r := pl_b (T := T) (P2 := p_X2_strap T c.2.1) (F2 := fun w => f_X2_strap g w (some (b + 151)) (zI mc q 1)) (rf_X0_strap (M := b) hL hm d3.symm) (fun w h1 h2 => by rw [← h2]; exact rf_X2_strap (M := b + 151) (hMw w h1) pOk.rf d3.symm) (q_strap hr c.2.1) pc_strap
    obtain ⟨v, mc1, t, u1, u2, u3⟩ := r
    refine ⟨v, mc1, t, ?_, pre t ?_, u3⟩
    · rw [if_pos (q205.mpr (by omega)), ha, Option.bind_some, e_rc (ci := 0) kb]
      exact u1
    · rw [if_neg w2, if_neg w3, if_neg w4, if_pos w5]
      exact u2
  rw [if_neg (fun y => w5 (by have := q205.mp y; omega))]
  by_cases w6 : c.1 = 6
  · have r := pl_b (T := T) (P2 := p_X2_swap T c.2.1 c.2.2) (F2 := fun w => f_X2_swap g w (some (b + 151)) (zI mc q 1) (zI mc q 2)) (rf_X0_swap (M := b) hL hm d3.symm d4.symm) (fun w h1 h2 => by rw [← h2]; exact rf_X2_swap (M := b + 151) (hMw w h1) pOk.rf d3.symm d4.symm) (q_swap hr c.2.1 c.2.2) pc_swap
    obtain ⟨v, mc1, t, u1, u2, u3⟩ := r
    refine ⟨v, mc1, t, ?_, pre t ?_, u3⟩
    · rw [if_pos (q206.mpr (by omega)), ha, Option.bind_some, hb, Option.bind_some, e_rc (ci := 0) kb]
      exact u1
    · rw [if_neg w2, if_neg w3, if_neg w4, if_neg w5, if_pos w6, e2 (by omega)]
      exact u2
  rw [if_neg (fun y => w6 (by have := q206.mp y; omega))]
  have w7 : c.1 = 7 := by omega
  have r := pl_b (T := T) (P2 := p_X2_arePassed T c.2.1) (F2 := fun w => f_X2_arePassed g w (some (b + 151)) (zI mc q 1)) (rf_X0_passesAll (M := b) hL hW hm d3.symm) (fun w h1 h2 => by rw [← h2]; exact rf_X2_arePassed (M := b + 151) (hMw w h1) pOk.rf d3.symm) (q_passesAll hr (n := c.2.1) (by have := d6 (by omega); omega)) pc_passes
  obtain ⟨v, mc1, t, u1, u2, u3⟩ := r
  refine ⟨v, mc1, t, ?_, pre t ?_, u3⟩
  · rw [ha, Option.bind_some, e_rc (ci := 0) kb]
    exact u1
  · rw [if_neg w2, if_neg w3, if_neg w4, if_neg w5, if_neg w6, if_pos w7]
    exact u2
/-- all of it -/
theorem pl_loop (hL : pLC g (zR m) b) (hM : pLM g (zR m) (b + 151)) (hW : pWok g (bC b) m W) {F : Nat → Prop} (hF : ∀ mc, pOk (bC b) m mc → agF F g m g mc) {ld : Nat} {all : List Nat} (hl : lsR F g m ld all) (hall : ∀ q, q ∈ all → F q) {t : Int} (t0 : 0 ≤ t) (t3 : t ≤ 3) {U : Int → Int} : ∀ (L : List aCl) (j : Nat) (xs0 xs : List Nat) (Fu Fu2 : Nat) (v : Int32) (mc w : zMm), dMt g m j L xs → all = xs0 ++ xs → v.toInt = (xs0.length : Int) → xs.length < Fu → L.length < Fu2 → j + L.length ≤ 24 → pOk (bC b) m mc → zR w = zR m → iM b w 3 = U → pRel W (iC b mc) (iM b w) → U (681 * t) = ((j + L.length : Nat) : Int) → (∀ (i : Nat) c, L[i]? = some c → U (681 * t + 1 + 3 * ((j + i : Nat) : Int)) = c.1 ∧ U (681 * t + 2 + 3 * ((j + i : Nat) : Int)) = c.2.1 ∧ ((c.1 ≤ 2 ∨ c.1 = 4 ∨ c.1 = 6) → U (681 * t + 3 + 3 * ((j + i : Nat) : Int)) = c.2.2)) → xs.length ≤ 1000 →
    (∃ kv mc' T', zLoop (b_X0_played_26 g (some b) (some ld)) Fu (v, mc) = some (.inl (kv, mc')) ∧ zLoop (pb_X2_played_21 t) Fu2 ((j : Int), iM b w) = some (.inl (kv.toInt, T')) ∧ pOk (bC b) m mc' ∧ pRel W (iC b mc') T') ∨
    ∃ mc' T', zLoop (b_X0_played_26 g (some b) (some ld)) Fu (v, mc) = some (.inr mc') ∧ zLoop (pb_X2_played_21 t) Fu2 ((j : Int), iM b w) = some (.inr T') ∧ pOk (bC b) m mc' ∧ pRel W (iC b mc') T' := by
  intro L
  induction L with
  | nil =>
    intro j xs0 xs Fu Fu2 v mc w hd ha hv hFu hFu2 h24 hm hw hU hr hn hc hx
    have hd : xs = [] := hd
    subst hd
    obtain ⟨Fu, rfl⟩ : ∃ F', Fu = F' + 1 := ⟨Fu - 1, by omega⟩
    obtain ⟨Fu2, rfl⟩ : ∃ F', Fu2 = F' + 1 := ⟨Fu2 - 1, by omega⟩
    have hl' := lsR_c hl (hF mc hm)
    have hsz := hl'.2.2.1
    rw [ha, List.append_nil] at hsz
    refine Or.inr ⟨mc, iM b w, zLoop_l ?_, zLoop_l ?_, hm, hr⟩
    · refine pw_to ?_
      unfold b_X0_played_26
      exact pw_beq (ls_size hl') (pw_ite (fun _ => pw_some rfl) (fun y => absurd ((i_le hsz hv).mpr (Int.le_refl _)) y))
    · refine pw_to ?_
      unfold pb_X2_played_21
      refine pw_p32 (by omega) (by omega) (pw_ald (by omega) (by omega) ?_)
      rw [hU, hn]
      exact pw_ite (fun _ => pw_some rfl) (fun y => absurd (by rw [List.length_nil, Nat.add_zero]; exact Int.le_refl _) y)
  | cons c L ih =>
    intro j xs0 xs Fu Fu2 v mc w hd ha hv hFu hFu2 h24 hm hw hU hr hn hc hx
    rw [List.length_cons] at hFu2 h24 hn
    obtain ⟨Fu2, rfl⟩ : ∃ F', Fu2 = F' + 1 := ⟨Fu2 - 1, by omega⟩
    obtain ⟨c0, c1, c2⟩ := hc 0 c rfl
    rw [Nat.add_zero] at c0 c1 c2
    have hn' : U (681 * t) = ((j + 1 + L.length : Nat) : Int) := by rw [hn]; congr 1; omega
    have hc' : ∀ (i : Nat) c, L[i]? = some c → U (681 * t + 1 + 3 * ((j + 1 + i : Nat) : Int)) = c.1 ∧ U (681 * t + 2 + 3 * ((j + 1 + i : Nat) : Int)) = c.2.1 ∧ ((c.1 ≤ 2 ∨ c.1 = 4 ∨ c.1 = 6) → U (681 * t + 3 + 3 * ((j + 1 + i : Nat) : Int)) = c.2.2) := fun i c hi => by
      have := hc (i + 1) c hi
      rw [show j + (i + 1) = j + 1 + i by omega] at this
      exact this
    have hj1 : ((j + 1 : Nat) : Int) = (j : Int) + 1 := by omega
    have pre2 : ∀ z : Int × zP, p_X2_isPlayed (iM b w) (681 * t + 1 + 3 * (j : Int)) = some z → ∀ X, (if z.1 = 0 then some (.inl (.inl ((j : Int), z.2))) else some (.inr ((j : Int) + 1, z.2)) : Option (((Int × zP) ⊕ zP) ⊕ (Int × zP))) = some X → pb_X2_played_21 t ((j : Int), iM b w) = some X := fun z hz X hX => by
      refine pw_to ?_
      unfold pb_X2_played_21
      refine pw_p32 (by omega) (by omega) (pw_ald (by omega) (by omega) ?_)
      rw [hU, hn]
      refine pw_ite (fun y => absurd y (by omega)) (fun _ => pw_p32 (by omega) (by omega) (pw_beq hz ?_))
      obtain ⟨z1, z2⟩ := z
      refine pw_ite (fun y => ?_) (fun y => pw_p32 (by omega) (by omega) ?_)
      · rw [if_pos (show z1 = 0 from y)] at hX
        exact ⟨_, hX, rfl⟩
      · rw [if_neg (show ¬ z1 = 0 from y)] at hX
        exact ⟨_, hX, rfl⟩
    unfold dMt at hd
    by_cases hc2 : c.1 < 2
    · -- a law
      rw [if_pos hc2] at hd
      have al : ∀ i, 0 ≤ i → i < 2724 → pald (iM b w) 3 2724 i = some (iM b w 3 i) := fun i a c => if_pos ⟨a, c⟩
      have e1 : p_X2_isPlayed (iM b w) (681 * t + 1 + 3 * (j : Int)) = some (1, iM b w) := by
        unfold p_X2_isPlayed
        rw [p32_n (by omega) (by omega), al _ (by omega) (by omega), Option.bind_some, p32_n (by omega) (by omega), al _ (by omega) (by omega), Option.bind_some, al _ (by omega) (by omega), Option.bind_some, hU, c0, if_neg (by omega), if_neg (by omega), if_neg (by omega), if_neg (by omega), if_neg (by omega), if_neg (by omega)]
      rw [zLoop_r (pre2 _ e1 (.inr ((j : Int) + 1, iM b w)) (if_neg (by show ¬ (1 : Int) = 0; decide))), ← hj1]
      exact ih (j + 1) xs0 xs Fu Fu2 v mc w hd ha hv hFu (by omega) (by omega) hm hw hU hr hn' hc' hx
    · -- a doing
      rw [if_neg hc2] at hd
      obtain ⟨q, ys, e, ⟨hD, c7⟩, hd⟩ := hd
      subst e
      rw [List.length_cons] at hFu hx
      obtain ⟨Fu, rfl⟩ : ∃ F', Fu = F' + 1 := ⟨Fu - 1, by omega⟩
      have hqF : F q := hall q (by rw [ha]; exact List.mem_append_right _ List.mem_cons_self)
      have ag := hF mc hm
      have kq := ag.2.2 q (Or.inl hqF)
      have hD1 : tDo g mc q (200 + c.1) c.2.1 c.2.2 (j : Int) := by
        unfold tDo at hD ⊢
        rw [kq.2.1]; exact hD
      have l2 : 681 * t + 1 + 3 * (j : Int) + 1 = 681 * t + 2 + 3 * (j : Int) := by omega
      have l3 : 681 * t + 1 + 3 * (j : Int) + 2 = 681 * t + 3 + 3 * (j : Int) := by omega
      obtain ⟨u, mc1, z, s1, s2, s3, s4, s5, s6⟩ := pl_step hL hM hW hm hr hD1 hc2 c7 (x := 681 * t + 1 + 3 * (j : Int)) (by omega) (by omega) (by rw [hU]; exact c0) (by rw [hU, l2]; exact c1) (fun y => by rw [hU, l3]; exact c2 y)
      have hl' := lsR_c hl ag
      have hl1 := lsR_c hl (hF mc1 s5)
      have hsz := hl'.2.2.1
      rw [ha, List.length_append, List.length_cons] at hsz
      have hget : all[xs0.length]? = some q := by rw [ha, List.getElem?_append_right (Nat.le_refl _), Nat.sub_self]; rfl
      have kq16 : (zK g q).1 = 16 + 1 := hD.1
      have hcst : zcst [16] g (some q) = some () := by
        refine if_pos ?_
        rw [kq16]; decide
      have kb : (zK g b).1 = 0 + 1 := lc_o hL
      have hq1 : (zI mc1 q 3).toInt = (j : Int) := by
        rw [((hF mc1 s5).2.2 q (Or.inl hqF)).2.1]
        exact hD.2.2.2.2.1
      have u0 := i_eq (v := u) (c := (0 : Int32)) s3 (show (0 : Int32).toInt = 0 by decide)
      have hxs0 : (xs0.length : Int) ≤ 1000 := by
        have := hl.2.2.2.1
        rw [ha, List.length_append] at this
        omega
      have pre : ∀ X, (if u = 0 then some (.inl (.inl (zI mc1 q 3, mc1))) else some (.inr (v + 1, mc1)) : Option ((((Int32 × zMm) ⊕ (zMm))) ⊕ (Int32 × zMm))) = some X → b_X0_played_26 g (some b) (some ld) (v, mc) = some X := fun X hX => by
        refine pw_to ?_
        unfold b_X0_played_26
        refine pw_beq (ls_size hl') (pw_ite (fun y => absurd ((i_le hsz hv).mp y) (by omega)) (fun _ => pw_beq (ls_get hl' hv hget) (pw_beq hcst ?_)))
        rw [e_rc (ci := 0) kb]
        refine pw_beq s1 (pw_ite (fun y => ?_) (fun y => pw_zlt ?_))
        · rw [if_pos y] at hX
          refine pw_beq (ls_get hl1 hv hget) (pw_beq hcst ?_)
          rw [e_rc (ci := 16) kq16]
          have : f_X16_number g mc1 (some q) = some (zI mc1 q 3) := by
            unfold f_X16_number
            rw [e_gi (ci := 16) kq16]; rfl
          exact pw_beq this ⟨_, hX, rfl⟩
        · rw [if_neg y] at hX
          exact ⟨_, hX, rfl⟩
      by_cases y : u = 0
      · left
        refine ⟨zI mc1 q 3, mc1, z.2, zLoop_l (pre _ (if_pos y)), zLoop_l (pre2 z s2 _ ?_), s5, s4⟩
        rw [if_pos (u0.mp y), hq1]
      · obtain ⟨w1, w2, w3⟩ := s6 w hw rfl
        have hz : ¬ z.1 = 0 := fun k => y (u0.mpr k)
        rw [zLoop_r (pre _ (if_neg y)), zLoop_r (pre2 z s2 _ (if_neg hz)), w2, ← hj1]
        refine ih (j + 1) (xs0 ++ [q]) ys Fu Fu2 (v + 1) mc1 w1 hd (by rw [ha, List.append_assoc]; rfl) ?_ (by omega) (by omega) (by omega) s5 (w3.2.trans hw) ?_ (by rw [← w2]; exact s4) hn' hc' (by omega)
        · rw [i_add hv (show (1 : Int32).toInt = 1 by decide) (by omega) (by omega), List.length_append, List.length_singleton]; omega
        · rw [← hU]
          exact iM_eq (oM_I w3 (by omega)).1 (oM_I w3 (by omega)).2
theorem k_isText {S : zP} {a : Int} (h0 : 0 ≤ S 2 1) (h4 : S 2 1 ≤ 4) : p_X0_isText S a = some (if 0 ≤ a ∧ a ≤ S 2 1 - 1 then 1 else 0) := by
  refine pw_to ?_
  unfold p_X0_isText
  refine pw_ald (by omega) (by omega) (pw_p32 (by omega) (by omega) (pw_beq (k_in _ _ _) ?_))
  refine pw_bo ?_ (pw_some rfl)
  by_cases y : 0 ≤ a ∧ a ≤ S 2 1 - 1
  · rw [if_pos y]; exact Or.inr rfl
  · rw [if_neg y]; exact Or.inl rfl
theorem c_played (h : iV D b g m) (v : Int32) : ∃ u m1 m2, f_X0_played g m (some b) v = some (u, m1) ∧ f_X2_played g m1 (some (b + 151)) v = some (u, m2) ∧ iV D b g m2 := by
  have hr := iV_rel h
  have hL := iV_lc h
  have kb : (zK g b).1 = 0 + 1 := lc_o hL
  have n1 := hr.1.1.2.1
  have r2 : ∀ m1, zR m1 = zR m → pRf (qP qI (qM (bM (b + 151)) m1)) (p_X2_played (iM b m1) v.toInt) (f_X2_played g m1 (some (b + 151)) v) := fun m1 e => rf_X2_played (M := b + 151) (by rw [e]; exact iV_lm h) pOk.rf rfl
  obtain ⟨z1, f1, e1⟩ := rf_X0_isText (M := b) hL (pOk.rf (m := m)) (a1 := v) rfl _ (k_isText (S := iC b m) (by omega) (by omega))
  have e1 : (if 0 ≤ v.toInt ∧ v.toInt ≤ iC b m 2 1 - 1 then (1 : Int) else 0) = z1.toInt := e1
  have f1 : f_X0_isText g m (some b) v = some z1 := f1
  have r0 : zR m b 0 = some (b + 1) := lc_f0 hL
  have z10 := i_eq (v := z1) (c := (0 : Int32)) e1.symm (show (0 : Int32).toInt = 0 by decide)
  have n0 : (0 : Int) ≤ iM b m 1 1 ∧ iM b m 1 1 ≤ 4 := n1.2
  have n2 : iC b m 2 1 = iM b m 1 1 := n1.1
  by_cases y : 0 ≤ v.toInt ∧ v.toInt ≤ iC b m 2 1 - 1
  · rw [if_pos y] at e1 z10
    obtain ⟨x, Cl, C, h1, h2, ⟨⟨x1, x2⟩, ld, xs, h3, h4, h5, h6⟩, h7⟩ := h.2.2.2.1 v.toInt y.1 (by omega)
    have hI : (iF b g x) := x1
    have lp := pl_loop hL (iV_lm h) (iV_ok h) (fun mc hm => iF_ag hm (lc_b hL)) h4 h6 (t := v.toInt) y.1 (by omega) (U := iM b m 3) Cl 0 [] xs zFuel zFuel 0 m m h5 rfl (by decide) (by have := h4.2.2.2.1; unfold zFuel; omega) (by have := h7.2.1; unfold zFuel; omega) (by have := h7.2.1; omega) pOk.rf rfl rfl hr (by rw [h7.1]; congr 1; omega) (fun i c hi => by rw [Nat.zero_add]; exact h7.2.2.2.1 i c hi) h4.2.2.2.1
    have preC : ∀ X, (zEx (σ := zMm) (zLoop (b_X0_played_26 g (some b) (some ld)) zFuel ((0 : Int32), m)) fun m7 => some (((-1 : Int32), m7))) = some X → f_X0_played g m (some b) v = some X := fun X hX => by
      unfold f_X0_played
      rw [e_rc (ci := 0) kb, f1, Option.bind_some, if_neg (fun k => by have := z10.mp k; omega), e_gr (ci := 0) kb, r0, Option.bind_some]
      have k1 : (zK g (b + 1)).1 = 1 + 1 := ls_o (lc_s1 hL)
      have r11 : zR m (b + 1) 11 = some (b + 71) := ls_f11 (lc_s1 hL)
      have k71 : zK g (b + 71) = (108, 4) := ls_k70 (lc_s1 hL)
      rw [e_gr (ci := 1) k1, r11, Option.bind_some, e_aldr k71 rfl y.1 (by omega), h1, Option.bind_some, e_gr (ci := 4) x2, h3, Option.bind_some]
      exact hX
    have preM : ∀ X, (zEx (σ := zP) (zLoop (pb_X2_played_21 v.toInt) zFuel (0, iM b m)) fun S5 => some (((-1), S5))) = some X → p_X2_played (iM b m) v.toInt = some X := fun X hX => by
      refine pw_to ?_
      unfold p_X2_played
      refine pw_ald (by omega) (by omega) (pw_p32 (by omega) (by omega) (pw_isIn (fun _ _ => ?_) (fun k => by exfalso; omega)))
      rw [if_neg (by decide)]
      exact ⟨_, hX, rfl⟩
    rcases lp with ⟨kv, mc', T', a1, a2, a3, a4⟩ | ⟨mc', T', a1, a2, a3, a4⟩
    · exact i_mm h (P2 := fun S => p_X2_played S v.toInt) (F2 := fun m1 => f_X2_played g m1 (some (b + 151)) v) (P0 := some (kv.toInt, iC b mc')) (F0 := some (kv, mc')) (r_some (qP_i (qI_i rfl) (qM_i a3))) r2 ⟨_, rfl, (kv.toInt, T'), preM _ (by have a2 : zLoop (pb_X2_played_21 v.toInt) zFuel (0, iM b m) = some (.inl (kv.toInt, T')) := a2; rw [a2]; rfl), rfl, a4⟩ |>.elim fun u k => k.elim fun m1 k => k.elim fun m2 k => ⟨u, m1, m2, (preC _ (by rw [a1]; rfl)).trans k.1, k.2⟩
    · exact i_mm h (P2 := fun S => p_X2_played S v.toInt) (F2 := fun m1 => f_X2_played g m1 (some (b + 151)) v) (P0 := some (-1, iC b mc')) (F0 := some (-1, mc')) (r_some (qP_i (qI_i (by decide)) (qM_i a3))) r2 ⟨_, rfl, (-1, T'), preM _ (by have a2 : zLoop (pb_X2_played_21 v.toInt) zFuel (0, iM b m) = some (.inr T') := a2; rw [a2]; rfl), rfl, a4⟩ |>.elim fun u k => k.elim fun m1 k => k.elim fun m2 k => ⟨u, m1, m2, (preC _ (by rw [a1]; rfl)).trans k.1, k.2⟩
  · rw [if_neg y] at e1 z10
    have preC : f_X0_played g m (some b) v = some (-2, m) := by
      unfold f_X0_played
      rw [e_rc (ci := 0) kb, f1, Option.bind_some, if_pos (z10.mpr rfl)]
    have preM : p_X2_played (iM b m) v.toInt = some (-2, iM b m) := by
      refine pw_to ?_
      unfold p_X2_played
      refine pw_ald (by omega) (by omega) (pw_p32 (by omega) (by omega) (pw_isIn (fun _ _ => by exfalso; omega) (fun k => ?_)))
      rw [if_pos rfl]
      exact pw_some rfl
    exact i_mm h (P2 := fun S => p_X2_played S v.toInt) (F2 := fun m1 => f_X2_played g m1 (some (b + 151)) v) (P0 := some (-2, iC b m)) (F0 := some (-2, m)) (r_some (qP_i (qI_i (by decide)) (qM_i pOk.rf))) r2 ⟨_, rfl, (-2, iM b m), preM, rfl, hr⟩ |>.elim fun u k => k.elim fun m1 k => k.elim fun m2 k => ⟨u, m1, m2, preC.trans k.1, k.2⟩
end
